set_option maxRecDepth 100000
section CWled
variable {p : Program} {l : Launch} {e : Env} {s : State} {m : MethodId} {args : Array Value} {below : List Frame} {meth : Method} {c : Code} {D : va_G} {Z : State → Prop} {Hb : Heap} {A : Nat → Prop} {ad : Nat → Nat} {sc : Option Nat × Option Nat × (Nat → Value)} {tw : Option TD} {τ : TD} {w0 : va_W} {b0 : Nat}
theorem h1_led : yX1_led.cls = RX1 ∧ yX1_led.cls ≠ "java/lang/invoke/MethodHandle" ∧ yX1_led.cls ≠ "java/lang/invoke/VarHandle" ∧ (parseMethodDescriptor yX1_led.desc).map (fun d => d.parameters.length) = some 1 := by decide +kernel
theorem cm_n {P : Cond → Prop} : ∀ w ∈ ([] : List Cond), vx_no w = true → P w := fun _ h => nomatch h
theorem cm_c {P : Cond → Prop} {w : Cond} {B : List Cond} (h : vx_no w = true → P w) (t : ∀ w ∈ B, vx_no w = true → P w) : ∀ w' ∈ w :: B, vx_no w' = true → P w' := fun w' h' => (List.mem_cons.mp h').elim (fun e => by rw [e]; exact h) (t w')
theorem led_at (hC : CX RX1 cX1_led 4 (some .int) D gCl nwG Z Hb A p s m args meth c) (hz : zL A Hb s) : ∀ w ∈ vx_at0 RX1 377 nse ["java/lang/RuntimeException", "java/lang/Exception"], w.before args s = true := by
  have big : ∀ w ∈ Bundle.ownAtoms0 RX1 377 nse ["java/lang/RuntimeException", "java/lang/Exception"], vx_no w = true → w.before args s = true := cm_c (fun _ => hC.ts _ q120)
    (cm_c (fun _ => hC.ts _ q180)
    (cm_c (fun _ => hC.ts _ q189)
    (cm_c (fun _ => hC.ts _ q192)
    (cm_c (fun _ => hC.ts _ q195)
    (cm_c (fun _ => hC.ts _ q197)
    (cm_c (fun _ => hC.ts _ q181)
    (cm_c (fun _ => hC.ts _ q182)
    (cm_c (fun _ => hC.ts _ q150)
    (cm_c (fun _ => hC.ts _ q151)
    (cm_c (fun _ => hC.ts _ q183)
    (cm_c (fun _ => hC.ts _ q188)
    (cm_c (fun _ => hC.ts _ q193)
    (cm_c (fun _ => hC.ts _ q216)
    (cm_c (fun _ => hC.ts _ q170)
    (cm_c (fun _ => hC.ts _ q217)
    (cm_c (fun _ => hC.ts _ q172)
    (cm_c (fun _ => hC.ts _ q218)
    (cm_c (fun _ => hC.ts _ q174)
    (cm_c (fun _ => hC.ts _ q184)
    (cm_c (fun h => absurd h (by decide +kernel))
    (cm_c (fun _ => hC.ts _ q186)
    (cm_c (fun h => absurd h (by decide +kernel))
    (cm_c (fun _ => hC.ts _ q176)
    (cm_c (fun _ => hC.ts _ q1379)
    (cm_c (fun _ => hC.ts _ q1380)
    (cm_c (fun _ => hC.ts _ q1381)
    (cm_c (fun _ => hC.ts _ q1382)
    (cm_c (fun _ => va_Nw.use rfl hz.2.2.1)
    (cm_c (fun _ => hC.ts _ q1382)
    (cm_c (fun _ => hC.ts _ q1383)
    (cm_c (fun _ => hC.ts _ q1384)
    (cm_c (fun _ => hC.ts _ q1385)
    (cm_c (fun _ => va_Nw.use rfl hz.2.2.2.1)
    (cm_c (fun _ => hC.ts _ q1385)
    (cm_c (fun _ => hC.ts _ q1386)
    (cm_c (fun _ => hC.ts _ q1387)
    (cm_c (fun _ => hC.ts _ q181)
    (cm_c (fun _ => va_Nw.use rfl hz.2.2.2.2.1)
    (cm_c (fun _ => hC.ts _ q1378)
    (cm_c (fun _ => hC.ts _ q1370)
    (cm_c (fun _ => va_Nw.use rfl hz.2.2.2.2.2)
    (cm_c (fun _ => hC.ts _ q1372)
    (cm_c (fun _ => hC.ts _ q191)
    (cm_c (fun _ => hC.ts _ q1373)
    (cm_c (fun _ => hC.ts _ q1374)
    (cm_c (fun _ => hC.ts _ q1375)
    (cm_c (fun _ => hC.ts _ q1376)
    (cm_c (fun h => absurd h (by decide +kernel))
    (cm_c (fun h => absurd h (by decide +kernel))
    (cm_c (fun _ => hC.ts _ q179)
    (cm_c (fun _ => hC.ts _ q178)
    (cm_c (fun _ => hC.ts _ q1377)
    (cm_n)))))))))))))))))))))))))))))))))))))))))))))))))))))
  exact fun w hw => big w (List.mem_filter.mp hw).1 (List.mem_filter.mp hw).2
theorem led_good : ∀ w ∈ Cond.classLink RX1 375 nse :: Cond.initialized nse :: vx_at0 RX1 377 nse ["java/lang/RuntimeException", "java/lang/Exception"], vx_ot w = true := by decide +kernel
def f1_led_4 (post : Int32 → Prop) (xpost : Prop) (tw : Option TD) (S : CS) (x1 : Int32) (K4 : (Int32 × Int32) → Prop) (x2 : Int32) (x3 : Int32) : Prop :=
  ((tw = none → xpost) ∧ ((∃ τ, tw = some τ) → (((S.1.1 50 9) ≤ x3 → xpost) ∧ (¬ (S.1.1 50 9) ≤ x3 → (w4_isRight (fun r3 => ((r3 = 0 → ((¬ x2 = x1 → (K4 ((x2 + 1), (x3 + 1)))) ∧ (x2 = x1 → (post x3)))) ∧ (¬ r3 = 0 → (K4 (x2, (x3 + 1)))))) tw S 0 x3 (S.1.1 (300 + 4 * 0) 4) 0)))))
set_option maxHeartbeats 4000000 in
theorem k1_led_4 {post : Int32 → Prop} {xpost : Prop} {S : CS} {x1 : Int32} (hC : CX RX1 cX1_led 4 (some .int) D gCl nwG Z Hb A p s m args meth c) (hst : l.stackTraces = false) (hzl : ∀ U, Z U → zL A Hb U) (hout : ∀ x ∈ c.exceptionTable.toList, False) : ∀ z : (Int32 × Int32), lp (fun (K : (Int32 × Int32) → Prop) (z : (Int32 × Int32)) => f1_led_4 post xpost tw S x1 K z.1 z.2) z → ∀ (H : Heap) (locs : List Loc) (ls : Array Slot), va_P D gCl (wC D ad sc tw S) H → va_D A (wC D ad sc tw S) → va_S A s.heap H locs → lv_has ls 4 [(0, .ref (ad 0)), (1, .int x1), (2, .int z.1), (3, .int z.2)] → W p l e ({ frames := 123, cells := 1, slots := 6, locals := 6070 } : Room) s m args below meth c H locs 0 0 (vx_MQ below (va_Qi (fun r (_ : Unit) => post r) (BW D gCl A (fun _ => (wC D ad sc tw S))) A) (vx_X (fun _ : Unit => xpost) (fun E (u : Unit) t => E = nse ∧ BW D gCl A (fun _ => wC D ad sc tw S) u t) A) args s 1 6 A) (F0 m 4 ls []) := by
  refine lp_ind ?_
  rintro K4 ⟨x2, x3⟩ hK4 hw H locs ls hP hD hS hl
  have hw : f1_led_4 post xpost tw S x1 K4 x2 x3 := hw
  unfold f1_led_4 at hw
  have hP : va_P D gCl (wC D ad sc tw S) H := hP
  have hD : va_D A (wC D ad sc tw S) := hD
  have hl : lv_has ls 4 [(0, .ref (ad 0)), (1, .int x1), (2, .int x2), (3, .int x3)] := hl
  refine lv_aload_n hC.x hC.b dX1_led_4 rfl (lv_at hl 0 rfl) ?_
  refine gO_3 hC hP dX1_led_5 ?_
  rcases va_o2 tw with c1 | ⟨τ, c1⟩
  · have hw1112 := hw.1 c1
    subst c1
    refine lv_ifnullN (tgt := 60) hC.x hC.b dX1_led_8 (by decide) ?_
    refine vx_throw0 (cc := cX1_led) (own := RX1) (cls := nse) (names := ["java/lang/RuntimeException", "java/lang/Exception"]) (ik := 375) (ic := 377) (A := A) hC.x hC.b hst hC.ow (by decide +kernel) (by decide +kernel) (hC.ts _ q1369) (hC.ts _ q143) (led_at hC (hzl s hC.K.2.2.2)) led_good ((hzl s hC.K.2.2.2).1.kept hC.ag) ((hzl s hC.K.2.2.2).2.1.kept hC.ag) hS (by rw [hC.ml]; exact hl.1) dX1_led_60 dX1_led_63 dX1_led_64 dX1_led_67 (fun x hx => (hout x hx).elim) (Nat.le_of_ble_eq_true rfl) (Nat.le_of_ble_eq_true rfl) (Nat.le_of_ble_eq_true rfl) (Nat.le_of_ble_eq_true rfl) hC.lk (fun t _ hsz hkp => ⟨(), hw1112, ⟨rfl, hP.kept (fun k q hk => hkp _ (vx_lt hP hk)), hD⟩, Nat.le_trans hS.1 hsz, fun q h1 h2 => (hkp q (Nat.lt_of_lt_of_le h1 hS.1)).trans (hS.2.1 q h1 h2)⟩) hS.2.2 (Nat.le_of_ble_eq_true rfl) (Nat.le_of_ble_eq_true rfl)
  · have hw1113 := hw.2 ⟨τ, c1⟩
    subst c1
    refine lv_ifnull hC.x hC.b dX1_led_8 ?_
    refine lv_iload_n hC.x hC.b dX1_led_11 rfl (lv_at hl 3 rfl) ?_
    refine lv_aload_n hC.x hC.b dX1_led_12 rfl (lv_at hl 0 rfl) ?_
    refine gO_3 hC hP dX1_led_13 ?_
    refine gX1T_9 hC hP dX1_led_16 ?_
    refine lv_icmp_ge (tgt := 60) hC.x hC.b dX1_led_19 (by decide) (fun c2 => ?_) (fun c2 => ?_)
    · have hw1114 := hw1113.1 c2
      refine vx_throw0 (cc := cX1_led) (own := RX1) (cls := nse) (names := ["java/lang/RuntimeException", "java/lang/Exception"]) (ik := 375) (ic := 377) (A := A) hC.x hC.b hst hC.ow (by decide +kernel) (by decide +kernel) (hC.ts _ q1369) (hC.ts _ q143) (led_at hC (hzl s hC.K.2.2.2)) led_good ((hzl s hC.K.2.2.2).1.kept hC.ag) ((hzl s hC.K.2.2.2).2.1.kept hC.ag) hS (by rw [hC.ml]; exact hl.1) dX1_led_60 dX1_led_63 dX1_led_64 dX1_led_67 (fun x hx => (hout x hx).elim) (Nat.le_of_ble_eq_true rfl) (Nat.le_of_ble_eq_true rfl) (Nat.le_of_ble_eq_true rfl) (Nat.le_of_ble_eq_true rfl) hC.lk (fun t _ hsz hkp => ⟨(), hw1114, ⟨rfl, hP.kept (fun k q hk => hkp _ (vx_lt hP hk)), hD⟩, Nat.le_trans hS.1 hsz, fun q h1 h2 => (hkp q (Nat.lt_of_lt_of_le h1 hS.1)).trans (hS.2.1 q h1 h2)⟩) hS.2.2 (Nat.le_of_ble_eq_true rfl) (Nat.le_of_ble_eq_true rfl)
    · have hw1115 := hw1113.2 c2
      refine lv_aload_n hC.x hC.b dX1_led_22 rfl (lv_at hl 0 rfl) ?_
      refine gO_9 hC hP dX1_led_23 ?_
      refine lv_iload_n hC.x hC.b dX1_led_26 rfl (lv_at hl 3 rfl) ?_
      refine lv_aload_n hC.x hC.b dX1_led_27 rfl (lv_at hl 0 rfl) ?_
      refine gO_9 hC hP dX1_led_28 ?_
      refine gX1S_4 (r := 0) (by decide) hC hP dX1_led_31 ?_
      refine lv_iconst (v := 0) hC.x hC.b dX1_led_34 (by decide) ?_
      refine go_i (run_V (rest := []) hC (m4_isRight l (by decide) hw1115) v1_4_isRight h4_isRight (17 + 4 * 0) 3 gCl_X4 (wC_so (by decide)) rfl ⟨rfl, rfl, Nat.le_of_ble_eq_true rfl, Nat.le_of_ble_eq_true rfl⟩ ⟨Nat.le_of_ble_eq_true rfl, Nat.le_of_ble_eq_true rfl⟩ hP hD hS hl.1 (Nat.le_of_ble_eq_true rfl) dX1_led_35 rfl) hS (fun r3 u H locs hw1116 hP hD hS => ?_)
      refine lv_if_eq (tgt := 44) hC.x hC.b dX1_led_38 (by decide) (fun c4 => ?_) (fun c4 => ?_)
      · have hw1117 := hw1116.1 c4
        refine lv_iload_n hC.x hC.b dX1_led_44 rfl (lv_at hl 2 rfl) ?_
        refine lv_iload_n hC.x hC.b dX1_led_45 rfl (lv_at hl 1 rfl) ?_
        refine lv_icmp_ne (tgt := 51) hC.x hC.b dX1_led_46 (by decide) (fun c5 => ?_) (fun c5 => ?_)
        · have hw1118 := hw1117.1 c5
          refine lv_iinc (v := (x2 + 1)) (lv' := [(2, .int (x2 + 1)), (0, .ref (ad 0)), (1, .int x1), (3, .int x3)]) hC.x hC.b dX1_led_51 hl (k := 2) rfl rfl (by decide) rfl (fun ls hl => ?_)
          refine lv_iinc (v := (x3 + 1)) (lv' := [(3, .int (x3 + 1)), (2, .int (x2 + 1)), (0, .ref (ad 0)), (1, .int x1)]) hC.x hC.b dX1_led_54 hl (k := 3) rfl rfl (by decide) rfl (fun ls hl => ?_)
          refine lv_goto (tgt := 4) hC.x hC.b dX1_led_57 (by decide) ?_
          exact hK4 ((x2 + 1), (x3 + 1)) hw1118 H locs ls hP hD hS (lv_sub hl [2, 3, 1, 0] rfl)
        · have hw1119 := hw1117.2 c5
          refine lv_iload_n hC.x hC.b dX1_led_49 rfl (lv_at hl 3 rfl) ?_
          refine vx_ret ?_
          refine W.widen (k := 1) (n := 6) (Nat.le_of_ble_eq_true rfl) (Nat.le_of_ble_eq_true rfl) ?_
          exact rt_i (u := ()) hC hw1119 hP hD hS dX1_led_50
      · have hw1120 := hw1116.2 c4
        refine lv_goto (tgt := 54) hC.x hC.b dX1_led_41 (by decide) ?_
        refine lv_iinc (v := (x3 + 1)) (lv' := [(3, .int (x3 + 1)), (0, .ref (ad 0)), (1, .int x1), (2, .int x2)]) hC.x hC.b dX1_led_54 hl (k := 3) rfl rfl (by decide) rfl (fun ls hl => ?_)
        refine lv_goto (tgt := 4) hC.x hC.b dX1_led_57 (by decide) ?_
        exact hK4 (x2, (x3 + 1)) hw1120 H locs ls hP hD hS (lv_sub hl [1, 2, 3, 0] rfl)
def w1_led (post : Int32 → Prop) (xpost : Prop) (tw : Option TD) (S : CS) (x1 : Int32) : Prop :=
  (lp (fun (K : (Int32 × Int32) → Prop) (z : (Int32 × Int32)) => f1_led_4 post xpost tw S x1 K z.1 z.2) (0, 0))
set_option maxHeartbeats 4000000 in
theorem m1_led (l : Launch) {post : Int32 → Prop} {xpost : Prop} {S : CS} {x1 : Int32} (hst : l.stackTraces = false) (hzl : ∀ U, Z U → zL A Hb U) (hw : w1_led post xpost tw S x1) : vx_Met l yX1_led (ws_ yX1_led cX1_led 4 (some .int)) ({ frames := 123, cells := 1, slots := 6, locals := 6070 } : Room) (va_Pc [.ref (ad 0), .int x1] (PcG D gCl nwG Z Hb A (wC D ad sc tw S))) (va_Qi (fun r (_ : Unit) => post r) (BW D gCl A (fun _ => (wC D ad sc tw S))) A) (vx_X (fun _ : Unit => xpost) (fun E (u : Unit) t => E = nse ∧ BW D gCl A (fun _ => wC D ad sc tw S) u t) A) 1 6 A := by
  refine vx_ofG (by decide) (Nat.le_of_ble_eq_true rfl) ?_
  intro p e s m below meth c ls hC hout hP hD hS hl
  have hC : CX RX1 cX1_led 4 (some .int) D gCl nwG Z Hb A p s m _ meth c := hC
  have hl : lv_has ls 4 [(0, .ref (ad 0)), (1, .int x1)] := hl
  unfold w1_led at hw
  refine lv_iconst (v := 0) hC.x hC.b dX1_led_0 (by decide) ?_
  refine lv_istore_n (lv' := [(2, .int 0), (0, .ref (ad 0)), (1, .int x1)]) hC.x hC.b dX1_led_1 rfl hl (by decide) rfl (fun ls hl => ?_)
  refine lv_iconst (v := 0) hC.x hC.b dX1_led_2 (by decide) ?_
  refine lv_istore_n (lv' := [(3, .int 0), (2, .int 0), (0, .ref (ad 0)), (1, .int x1)]) hC.x hC.b dX1_led_3 rfl hl (by decide) rfl (fun ls hl => ?_)
  exact k1_led_4 hC hst hzl hout (0, 0) hw s.heap [] ls hP hD hS (lv_sub hl [2, 3, 1, 0] rfl)
end CWled
