set_option maxRecDepth 100000
section LAWD
variable {p : Program} {l : Launch} {e : Env} {s : State} {m : MethodId} {args : Array Value} {below : List Frame} {meth : Method} {c : Code} {H : Heap} {locs : List Loc} {cells slots : Nat} {Q : State → Prop} {D : va_G} {Z : State → Prop} {Hb : Heap} {A : Nat → Prop} {ls : Array Slot} {rest : List Value}
section
variable {R : Room} {own C : String} {cc bytes : ByteArray} {nL maxL index mc ms pc : Nat} {ret0 ret : Option FieldType} {y : MethodName} {rm : Room} {b : Addr} {As st0 : List Value} {w1 wr : va_W} {Qc : Array Value → State → Outcome → State → Prop} {hh : List (Nat × Nat × Nat × Nat)}
theorem fr_VW (hC : CX own cc nL ret0 D gCl nwG Z Hb A p s m args meth c) (hM : Met l y (wsW_ y bytes maxL ret hh) rm (va_Pc (.ref b :: As) (PcG D gCl nwG Z H (va_A w1 H.size) w1)) Qc mc ms (va_A w1 H.size)) (hq : GoodIn lw_all (wsV own index C y (wsW_ y bytes maxL ret hh)))
    (hd : y.cls = C ∧ y.cls ≠ "java/lang/invoke/MethodHandle" ∧ y.cls ≠ "java/lang/invoke/VarHandle" ∧ (parseMethodDescriptor y.desc).map (fun d => d.parameters.length) = some As.length)
    (q0 ci : Nat) {qc : vw_C} {fs : List Value} (hc : gCl[ci]? = some qc) (he : w1[q0]? = some (b, .inr (ci, fs))) (hcn : qc.1 = C)
    (hrm : rm.cells = mc ∧ rm.slots = ms ∧ rm.frames + 1 ≤ R.frames ∧ 8 + (maxL + 11) + rm.locals ≤ R.locals) (hf : cells + mc ≤ R.cells ∧ slots + ms ≤ R.slots)
    (hP : va_P D gCl (w1 ++ wr) H) (hD : va_D A (w1 ++ wr)) (hl : ls.size = nL) (hst : (rest.map fun v => v.category).sum ≤ 8) (hdg : decode cc pc = .ok (.invokevirtual index, 3)) (hstk : st0 = As.reverse ++ .ref b :: rest) :
    va_Run p l e R s m args below meth c H locs cells slots mc ms (F0 m pc ls st0) rest (Qc (Value.ref b :: As).toArray) (va_A w1 H.size) := by
  refine vx_runVW ⟨hC.x, hC.b, hC.ml, hC.ow, hC.ts⟩ hM (vx_cwVW As.length hC.ts hq rfl hrm.1 hrm.2.1 hd hrm.2.2) ⟨pcG_blind, ?_, ?_⟩ rfl rfl hl hstk (lv_room hst) hdg hf
  · rw [← hcn]
    exact va_recv hC.K.1 (fr_P hP) hc he
  · intro U hU hW
    exact ⟨rfl, fr_Pc hC hP hD U hU hW⟩
theorem fr_SW (hC : CX own cc nL ret0 D gCl nwG Z Hb A p s m args meth c) (hM : Met l y (wsW_ y bytes maxL ret hh) rm (va_Pc As (PcG D gCl nwG Z H (va_A w1 H.size) w1)) Qc mc ms (va_A w1 H.size)) (hq : GoodIn lw_all (va_wsS own index y (wsW_ y bytes maxL ret hh)))
    (hd : y.cls ≠ "java/lang/invoke/MethodHandle" ∧ y.cls ≠ "java/lang/invoke/VarHandle" ∧ (parseMethodDescriptor y.desc).map (fun d => d.parameters.length) = some As.length)
    (hrm : rm.cells = mc ∧ rm.slots = ms ∧ rm.frames + 1 ≤ R.frames ∧ 8 + (maxL + 11) + rm.locals ≤ R.locals) (hf : cells + mc ≤ R.cells ∧ slots + ms ≤ R.slots)
    (hP : va_P D gCl (w1 ++ wr) H) (hD : va_D A (w1 ++ wr)) (hl : ls.size = nL) (hst : (rest.map fun v => v.category).sum ≤ 8) (hdg : decode cc pc = .ok (.invokestatic index, 3)) (hstk : st0 = As.reverse ++ rest) :
    va_Run p l e R s m args below meth c H locs cells slots mc ms (F0 m pc ls st0) rest (Qc As.toArray) (va_A w1 H.size) := by
  refine vx_runSW ⟨hC.x, hC.b, hC.ml, hC.ow, hC.ts⟩ hM (vx_cwSW As.length hC.ts hq rfl hrm.1 hrm.2.1 hd hrm.2.2) ⟨pcG_blind, ?_⟩ rfl rfl hl hstk (lv_room hst) hdg hf
  intro U hU hW
  exact ⟨rfl, fr_Pc hC hP hD U hU hW⟩
end
variable {b L : Nat} {xs : Nat → Int32} {x4 : Int32} {ad am : Nat → Nat} {ao : Nat} {rf : Nat → Value}
theorem lsw_P {a b c : va_W} (h : va_P D gCl (a ++ (b ++ c)) H) : va_P D gCl ((a ++ c) ++ b) H := by
  rw [List.append_assoc]
  exact wsw_P h
theorem lsw_D {a b c : va_W} (h : va_D A (a ++ (b ++ c))) : va_D A ((a ++ c) ++ b) := by
  rw [List.append_assoc]
  exact wsw_D h
theorem lsu_P {a b c : va_W} (h : va_P D gCl ((a ++ c) ++ b) H) : va_P D gCl (a ++ (b ++ c)) H := by
  rw [List.append_assoc] at h
  exact wsw_P h
theorem lsu_D {a b c : va_W} (h : va_D A ((a ++ c) ++ b)) : va_D A (a ++ (b ++ c)) := by
  rw [List.append_assoc] at h
  exact wsw_D h
theorem vL_1_town : GoodIn lw_all (wsV RX0 24 RX1 yX1_town (wsW_ yX1_town cX1_town 3 (some .int) [((32 : Nat), (44 : Nat), (47 : Nat), (102 : Nat))])) := lw_VW q423 q424 q425 q118 q426
theorem vL_6_town : GoodIn lw_all (wsV RX0 27 RX6 yX6_town (ws_ yX6_town cX6_town 3 (some .int))) := lw_V q1505 q1506 q1507 q126 q1508
set_option maxHeartbeats 4000000 in
theorem lc_1 {Inv : Option TD → CS → Option (Nat → Nat) → MS → Prop} {w0 t0 : Option Nat} {tw : Option TD} {S : CS} {rdv : Option Nat} {tw' : Option (Nat → Nat)} {S' : MS} {ov : Nat → Int64} (hC : CX RX0 cL_law 7 (some .boolean) D gCl nwG Z Hb A p s m args meth c) (hX : va_X b L xs s s.heap) (hbl : b < s.heap.size) (hbA : ¬ A b) (h1 : vp_in (x4 + 1) L) (h2 : vp_in (x4 + 2) L) (h3 : vp_in (x4 + 3) L) (h4 : vp_in (x4 + 4) L) (h5 : vp_in (x4 + 5) L) (hcl : cells + 4644 ≤ 1200128) (hsl : slots + 27909 ≤ 5501098) {adK adV : Nat → Nat} (hz : ∀ U, Z U → zA adK adV A Hb U) (hst : l.stackTraces = false)
    (hO : ObT Inv (xs (x4 + 1).toNatClampNeg)) (hI : Inv tw S tw' S') (hP : va_P D gCl (wL D ad am ao rf w0 t0 tw S rdv tw' S' ov) H) (hD : va_D A (wL D ad am ao rf w0 t0 tw S rdv tw' S' ov)) (hS : va_S A s.heap H locs) (hl : lv_has ls 7 (lL b ad am ao x4))
    (next : ∀ (w0 t0 : Option Nat) (tw : Option TD) (S : CS) (rdv : Option Nat) (tw' : Option (Nat → Nat)) (S' : MS) (ov : Nat → Int64) (H : Heap) (locs : List Loc) (ls : Array Slot), Inv tw S tw' S' → va_P D gCl (wL D ad am ao rf w0 t0 tw S rdv tw' S' ov) H → va_D A (wL D ad am ao rf w0 t0 tw S rdv tw' S' ov) → va_S A s.heap H locs → lv_has ls 7 (lL b ad am ao x4) → W p l e room_1 s m args below meth c H locs (cells + 4644) (slots + 27909) Q (F0 m 2315 ls [])) :
    W p l e room_1 s m args below meth c H locs cells slots Q (F0 m 373 ls []) := by
  obtain ⟨r, C2, M2, g1, g2, g3⟩ := hO tw S tw' S' hI
  refine lv_aload_n hC.x hC.b dL_law_373 rfl (lv_at hl 3 rfl) ?_
  refine lv_aload_n hC.x hC.b dL_law_374 rfl (lv_at hl 4 rfl) ?_
  refine lv_iload hC.x hC.b dL_law_375 (lv_at hl 0 rfl) ?_
  refine lv_iconst (v := 1) hC.x hC.b dL_law_377 (by decide) ?_
  refine lv_iadd hC.x hC.b dL_law_378 ?_
  refine va_sld hC.x hC.b hX hbl hbA hS h1 dL_law_379 ?_
  refine fg_i hC (fr_VW (rest := []) (As := [.int (xs (x4 + 1).toNatClampNeg)]) hC (m1_town l (adK := adK) (adV := adV) (fun U hU => ((hz U hU).next (hC.ag.on hC.aA hS) (fr_A hC hD hS)).1) (g1 w0 t0)) vL_1_town hX1_town 0 0 gCl_X1 rfl rfl ⟨rfl, rfl, Nat.le_of_ble_eq_true rfl, Nat.le_of_ble_eq_true rfl⟩ ⟨by show _ ≤ 1200128; omega, by show _ ≤ 5501098; omega⟩ hP hD hl.1 (Nat.le_of_ble_eq_true rfl) dL_law_380 rfl) hP hD hS (fun r1 u1 H locs f1 hP hD hS => ?_)
  obtain ⟨tw1, w1, t1, S1⟩ := u1
  obtain ⟨rfl, f1⟩ := f1
  have hP := w3_P hP
  have hD := w3_D hD
  refine lv_aload_n hC.x hC.b dL_law_383 rfl (lv_at hl 2 rfl) ?_
  refine lv_aload_n hC.x hC.b dL_law_384 rfl (lv_at hl 4 rfl) ?_
  refine lv_iload hC.x hC.b dL_law_385 (lv_at hl 0 rfl) ?_
  refine lv_iconst (v := 1) hC.x hC.b dL_law_387 (by decide) ?_
  refine lv_iadd hC.x hC.b dL_law_388 ?_
  refine va_sld hC.x hC.b hX hbl hbA hS h1 dL_law_389 ?_
  refine fg_i hC (fr_V (rest := [.int r1]) (As := [.int (xs (x4 + 1).toNatClampNeg)]) hC (m6_town l (adK := adK) (adV := adV) (fun U hU => ((hz U hU).next (hC.ag.on hC.aA hS) (fr_A hC hD hS)).1) g2) vL_6_town h6_town 0 5 gCl_X6 rfl rfl ⟨rfl, rfl, Nat.le_of_ble_eq_true rfl, Nat.le_of_ble_eq_true rfl⟩ ⟨by show _ ≤ 1200128; omega, by show _ ≤ 5501098; omega⟩ hP hD hl.1 (Nat.le_of_ble_eq_true rfl) dL_law_390 rfl) hP hD hS (fun r2 u2 H locs f2 hP hD hS => ?_)
  obtain ⟨tw2, rv2, S2⟩ := u2
  obtain ⟨rfl, f2⟩ := f2
  have hP := w3_P (w3_P hP)
  have hD := w3_D (w3_D hD)
  refine lv_icmp_eq (tgt := 2315) hC.x hC.b dL_law_393 (by decide) (fun _ => ?_) (fun c => absurd rfl c)
  refine W.widen (k := cells + 4644) (n := slots + 27909) (by omega) (by omega) ?_
  exact next w1 t1 tw1 S1 rv2 tw2 S2 _ _ _ ls (g3 _ _ _ _ f1 f2) hP hD hS hl
theorem vL_0_led : GoodIn lw_all (va_wsS RX0 260 yX0_led (wsW_ yX0_led cX0_led 4 (some .int) [((0 : Nat), (9 : Nat), (12 : Nat), (13 : Nat))])) := lw_SW q1361 q1362 q117 q1363
theorem vL_6_led : GoodIn lw_all (wsV RX0 265 RX6 yX6_led (ws_ yX6_led cX6_led 4 (some .int))) := lw_V q2180 q2181 q2182 q126 q2183
theorem vL_6_thrown : GoodIn lw_all (wsV RX0 266 RX6 yX6_thrown (ws_ yX6_thrown cX6_thrown 1 (some .int))) := lw_V q1497 q1498 q1499 q126 q1500
set_option maxHeartbeats 4000000 in
theorem lc_58 {Inv : Option TD → CS → Option (Nat → Nat) → MS → Prop} {w0 t0 : Option Nat} {tw : Option TD} {S : CS} {rdv : Option Nat} {tw' : Option (Nat → Nat)} {S' : MS} {ov : Nat → Int64} (hC : CX RX0 cL_law 7 (some .boolean) D gCl nwG Z Hb A p s m args meth c) (hX : va_X b L xs s s.heap) (hbl : b < s.heap.size) (hbA : ¬ A b) (h1 : vp_in (x4 + 1) L) (h2 : vp_in (x4 + 2) L) (h3 : vp_in (x4 + 3) L) (h4 : vp_in (x4 + 4) L) (h5 : vp_in (x4 + 5) L) (hcl : cells + 4644 ≤ 1200128) (hsl : slots + 27909 ≤ 5501098) {adK adV : Nat → Nat} (hz : ∀ U, Z U → zA adK adV A Hb U) (hst : l.stackTraces = false)
    (hO : ObE Inv (xs (x4 + 1).toNatClampNeg)) (hI : Inv tw S tw' S') (hP : va_P D gCl (wL D ad am ao rf w0 t0 tw S rdv tw' S' ov) H) (hD : va_D A (wL D ad am ao rf w0 t0 tw S rdv tw' S' ov)) (hS : va_S A s.heap H locs) (hl : lv_has ls 7 (lL b ad am ao x4))
    (next : ∀ (w0 t0 : Option Nat) (tw : Option TD) (S : CS) (rdv : Option Nat) (tw' : Option (Nat → Nat)) (S' : MS) (ov : Nat → Int64) (H : Heap) (locs : List Loc) (ls : Array Slot), Inv tw S tw' S' → va_P D gCl (wL D ad am ao rf w0 t0 tw S rdv tw' S' ov) H → va_D A (wL D ad am ao rf w0 t0 tw S rdv tw' S' ov) → va_S A s.heap H locs → lv_has ls 7 (lL b ad am ao x4) → W p l e room_1 s m args below meth c H locs (cells + 4644) (slots + 27909) Q (F0 m 2315 ls [])) :
    W p l e room_1 s m args below meth c H locs cells slots Q (F0 m 2221 ls []) := by
  obtain ⟨k, b9, g1, g2⟩ := hO tw S tw' S' hI ov
  refine lv_aload_n hC.x hC.b dL_law_2221 rfl (lv_at hl 3 rfl) ?_
  refine lv_aload_n hC.x hC.b dL_law_2222 rfl (lv_at hl 4 rfl) ?_
  refine lv_iload hC.x hC.b dL_law_2223 (lv_at hl 0 rfl) ?_
  refine lv_iconst (v := 1) hC.x hC.b dL_law_2225 (by decide) ?_
  refine lv_iadd hC.x hC.b dL_law_2226 ?_
  refine va_sld hC.x hC.b hX hbl hbA hS h1 dL_law_2227 ?_
  refine lv_aload_n hC.x hC.b dL_law_2228 rfl (lv_at hl 1 rfl) ?_
  have hP := lsw_P hP
  have hD := lsw_D hD
  refine fg_i (wf := fun v => wC D ad (w0, t0, rf) tw S ++ oW D ao v) hC (fr_SW (rest := []) (As := [.ref (ad 0), .int (xs (x4 + 1).toNatClampNeg), .ref ao]) hC (m0_led l hst (fun U hU => ((hz U hU).next (hC.ag.on hC.aA hS) (fr_A hC hD hS)).2) g1) vL_0_led h0_led ⟨rfl, rfl, Nat.le_of_ble_eq_true rfl, Nat.le_of_ble_eq_true rfl⟩ ⟨by show _ ≤ 1200128; omega, by show _ ≤ 5501098; omega⟩ hP hD hl.1 (Nat.le_of_ble_eq_true rfl) dL_law_2229 rfl) hP hD hS (fun r1 v1 H locs f1 hP hD hS => ?_)
  obtain ⟨rfl, f1⟩ := f1
  have hP := w3_P (lsu_P hP)
  have hD := w3_D (lsu_D hD)
  refine lv_istore (lv' := (5, .int r1) :: lL b ad am ao x4) hC.x hC.b dL_law_2232 hl (by decide) rfl (fun ls hl => ?_)
  refine lv_aload_n hC.x hC.b dL_law_2234 rfl (lv_at hl 3 rfl) ?_
  refine lv_aload_n hC.x hC.b dL_law_2235 rfl (lv_at hl 5 rfl) ?_
  refine lv_iload hC.x hC.b dL_law_2236 (lv_at hl 1 rfl) ?_
  refine lv_iconst (v := 1) hC.x hC.b dL_law_2238 (by decide) ?_
  refine lv_iadd hC.x hC.b dL_law_2239 ?_
  refine va_sld hC.x hC.b hX hbl hbA hS h1 dL_law_2240 ?_
  refine fg_i hC (fr_V (rest := []) (As := [.int (xs (x4 + 1).toNatClampNeg)]) hC (m6_led l g2) vL_6_led h6_led 0 5 gCl_X6 rfl rfl ⟨rfl, rfl, Nat.le_of_ble_eq_true rfl, Nat.le_of_ble_eq_true rfl⟩ ⟨by show _ ≤ 1200128; omega, by show _ ≤ 5501098; omega⟩ hP hD hl.1 (Nat.le_of_ble_eq_true rfl) dL_law_2241 rfl) hP hD hS (fun r2 u2 H locs f2 hP hD hS => ?_)
  obtain ⟨rfl, f2⟩ := f2
  refine lv_istore (lv' := (6, .int r2) :: (5, .int r1) :: lL b ad am ao x4) hC.x hC.b dL_law_2244 hl (by decide) rfl (fun ls hl => ?_)
  refine lv_aload_n hC.x hC.b dL_law_2246 rfl (lv_at hl 4 rfl) ?_
  refine fg_i hC (fr_V (rest := []) (As := []) hC (m6_thrown l f2) vL_6_thrown h6_thrown 0 5 gCl_X6 rfl rfl ⟨rfl, rfl, Nat.le_of_ble_eq_true rfl, Nat.le_of_ble_eq_true rfl⟩ ⟨by show _ ≤ 1200128; omega, by show _ ≤ 5501098; omega⟩ hP hD hl.1 (Nat.le_of_ble_eq_true rfl) dL_law_2247 rfl) hP hD hS (fun r3 u3 H locs f3 hP hD hS => ?_)
  obtain ⟨rfl, f3⟩ := f3
  have hP := w3_P (w3_P hP)
  have hD := w3_D (w3_D hD)
  refine lv_iload hC.x hC.b dL_law_2250 (lv_at hl 1 rfl) ?_
  refine lv_icmp_eq (tgt := 2257) hC.x hC.b dL_law_2252 (by decide) (fun _ => ?_) (fun c => absurd rfl c)
  refine lv_iload hC.x hC.b dL_law_2257 (lv_at hl 1 rfl) ?_
  have done : W p l e room_1 s m args below meth c H locs (cells + 4644) (slots + 27909) Q (F0 m 2274 ls []) := by
    refine lv_goto (tgt := 2315) hC.x hC.b dL_law_2274 (by decide) ?_
    exact next _ _ _ _ _ _ _ _ _ _ ls f3 hP hD hS (lv_sub hl [2, 3, 4, 5, 6] rfl)
  refine W.widen (k := cells + 4644) (n := slots + 27909) (by omega) (by omega) ?_
  refine lv_if_ne (tgt := 2274) hC.x hC.b dL_law_2259 (by decide) (fun _ => done) (fun c => ?_)
  refine lv_aload_n hC.x hC.b dL_law_2262 rfl (lv_at hl 3 rfl) ?_
  refine lv_iconst (v := 0) hC.x hC.b dL_law_2263 (by decide) ?_
  refine va_lald hC.x hC.b hC.K.1 hP ((wC D ad (w0, t0, rf) tw S).length + ((wM D am none rdv tw' u2).length + 0)) 1 (by rw [List.getElem?_append_right (by omega), Nat.add_sub_cancel_left, List.getElem?_append_right (by omega), Nat.add_sub_cancel_left]; rfl) rfl (vp_lit rfl) dL_law_2264 ?_
  refine lv_iload hC.x hC.b dL_law_2265 (lv_at hl 0 rfl) ?_
  refine lv_i2l (v := r2.toInt64) hC.x hC.b dL_law_2267 rfl ?_
  refine W.lcmp hC.x hC.b dL_law_2268 ?_
  rw [show v1 (0 : Int32).toNatClampNeg = r2.toInt64 from f1 c, lg_cmp_self]
  exact lv_if_eq (tgt := 2274) hC.x hC.b dL_law_2269 (by decide) (fun _ => done) (fun c => absurd rfl c)
/-- all that is owed of the two, side by side -/
def Duties (Inv : Option TD → CS → Option (Nat → Nat) → MS → Prop) : Prop :=
  (∀ a0 a1 a2 a3 a4, Ob_feed Inv a0 a1 a2 a3 a4) ∧
  (∀ a, ObT Inv a) ∧
  (Ob_fault Inv) ∧
  (Ob_where Inv) ∧
  (∀ a0 a1, Ob_person Inv a0 a1) ∧
  (∀ a0 a1, Ob_dead Inv a0 a1) ∧
  (∀ a0, Ob_house Inv a0) ∧
  (∀ a0 a1, Ob_comesOut Inv a0 a1) ∧
  (∀ a0 a1 a2, Ob_outIf Inv a0 a1 a2) ∧
  (∀ a0 a1, Ob_hears Inv a0 a1) ∧
  (∀ a0 a1, Ob_off Inv a0 a1) ∧
  (∀ a0, Ob_right Inv a0) ∧
  (∀ a0, Ob_medium Inv a0) ∧
  (∀ a0, Ob_silent Inv a0) ∧
  (∀ a0 a1, Ob_rightFrom Inv a0 a1) ∧
  (∀ a0 a1, Ob_nightsOf Inv a0 a1) ∧
  (∀ a0, Ob_round Inv a0) ∧
  (Ob_bestNight Inv) ∧
  (Ob_perfect Inv) ∧
  (∀ a0 a1, Ob_together Inv a0 a1) ∧
  (∀ a0 a1 a2, Ob_aimFor Inv a0 a1 a2) ∧
  (∀ a0 a1 a2, Ob_aims Inv a0 a1 a2) ∧
  (∀ a0 a1, Ob_mirrorFor Inv a0 a1) ∧
  (∀ a0, Ob_mirrorBest Inv a0) ∧
  (∀ a0 a1, Ob_slipFor Inv a0 a1) ∧
  (∀ a0, Ob_seat Inv a0) ∧
  (∀ a0 a1, Ob_seatAt Inv a0 a1) ∧
  (∀ a0 a1 a2, Ob_likes Inv a0 a1 a2) ∧
  (∀ a0, Ob_restless Inv a0) ∧
  (∀ a0 a1, Ob_moveFor Inv a0 a1) ∧
  (∀ a0 a1, Ob_bring Inv a0 a1) ∧
  (∀ a0, Ob_bringFrom Inv a0) ∧
  (∀ a0 a1, Ob_steps Inv a0 a1) ∧
  (∀ a0 a1, Ob_ring Inv a0 a1) ∧
  (∀ a0 a1 a2, Ob_ringAt Inv a0 a1 a2) ∧
  (Ob_fits Inv) ∧
  (∀ a0, Ob_fitAt Inv a0) ∧
  (Ob_could Inv) ∧
  (Ob_surely Inv) ∧
  (Ob_ask Inv) ∧
  (Ob_askLeaves Inv) ∧
  (Ob_judge Inv) ∧
  (∀ a0 a1 a2 a3, Ob_chat Inv a0 (bz a1) (bz a2) (bz a3)) ∧
  (∀ a0, Ob_rests Inv a0) ∧
  (∀ a0, Ob_rest Inv a0) ∧
  (∀ a0 a1 a2, Ob_odds Inv a0 a1 (bz a2)) ∧
  (∀ a0 a1 a2, Ob_most Inv a0 a1 (bz a2)) ∧
  (∀ a0 a1 a2, Ob_mean Inv a0 a1 (bz a2)) ∧
  (∀ a0 a1 a2, Ob_heardBy Inv a0 a1 a2) ∧
  (∀ a0 a1, Ob_rights Inv a0 a1) ∧
  (Ob_night Inv) ∧
  (∀ a0 a1, Ob_move Inv a0 a1) ∧
  (∀ a0 a1, Ob_hang Inv a0 a1) ∧
  (∀ a0, Ob_take Inv a0) ∧
  (∀ a0 a1, Ob_teach Inv a0 a1) ∧
  (Ob_undo Inv) ∧
  (Ob_image Inv) ∧
  (∀ a0, Ob_back Inv a0) ∧
  (∀ a, ObE Inv a) ∧
  (∀ a0, Ob_size Inv a0) ∧
  (Ob_trouble Inv)
theorem l6 {L i : Nat} (hL : L ≤ 384) (hi : 6 * i ≤ L) (h : ¬ nI L - 6 < nI (6 * i)) : 6 * i + 6 ≤ L := by
  rcases Nat.lt_or_ge L 6 with q | q
  · have e : i = 0 := by omega
    subst e
    exfalso
    apply h
    rcases (show L = 0 ∨ L = 1 ∨ L = 2 ∨ L = 3 ∨ L = 4 ∨ L = 5 by omega) with rfl | rfl | rfl | rfl | rfl | rfl <;> decide
  · rcases Nat.lt_or_ge (L - 6) (6 * i) with q2 | q2
    · exfalso
      apply h
      have e : nI L - 6 = nI (L - 6) := by
        have e1 : nI L = nI (L - 6) + 6 := by
          show Int32.ofNat L = Int32.ofNat (L - 6) + Int32.ofNat 6
          rw [← Int32.ofNat_add, Nat.sub_add_cancel q]
        rw [e1, Int32.add_sub_cancel]
      rw [e]
      exact nI_lt q2 (by omega)
    · omega
set_option maxHeartbeats 8000000 in
theorem law_loop {Inv : Option TD → CS → Option (Nat → Nat) → MS → Prop} {b : Nat} {args0 : args = #[Value.ref b]} (hC : CX RX0 cL_law 7 (some .boolean) D gCl nwG Z Hb A p s m args meth c) (hX : va_X b L xs s s.heap) (hbl : b < s.heap.size) (hbA : ¬ A b) (hAs : ∀ q, A q → s.heap.size ≤ q) (hL : L ≤ 384) {adK adV : Nat → Nat} (hz : ∀ U, Z U → zA adK adV A Hb U) (hst : l.stackTraces = false) (hAll : Duties Inv) :
    ∀ (n i : Nat), i + n = 65 → 6 * i ≤ L → ∀ (w0 t0 : Option Nat) (tw : Option TD) (S : CS) (rdv : Option Nat) (tw' : Option (Nat → Nat)) (S' : MS) (ov : Nat → Int64) (H : Heap) (locs : List Loc) (ls : Array Slot), Inv tw S tw' S' → va_P D gCl (wL D ad am ao rf w0 t0 tw S rdv tw' S' ov) H → va_D A (wL D ad am ao rf w0 t0 tw S rdv tw' S' ov) → va_S A s.heap H locs → lv_has ls 7 (lL b ad am ao (nI (6 * i))) → W p l e room_1 s m args below meth c H locs (118 + 4644 * i) (66115 + 27909 * i) (lw_Z below args s) (F0 m 23 ls []) := by
  intro n
  induction n with
  | zero =>
    intro i h1 h2
    exact absurd h2 (by omega)
  | succ n ih =>
    intro i h1 h2 w0 t0 tw S rdv tw' S' ov H locs ls hI hP hD hS hl
    refine lv_iload hC.x hC.b dL_law_23 (lv_at hl 0 rfl) ?_
    refine lv_aload_n hC.x hC.b dL_law_25 rfl (lv_at hl 4 rfl) ?_
    refine va_slen hC.x hC.b hX hbl hbA hS dL_law_26 ?_
    refine lv_bipush (v := 6) hC.x hC.b dL_law_27 (by decide) ?_
    refine lv_isub hC.x hC.b dL_law_29 ?_
    refine lv_icmp_gt (tgt := 2321) hC.x hC.b dL_law_30 (by decide) (fun _ => ?_) (fun c9 => ?_)
    · refine lv_iconst (v := 1) hC.x hC.b dL_law_2321 (by decide) ?_
      refine va_forget (fun q hq => hAs _ (hS.2.2 q hq)) ?_
      refine W.widen (k := 1200128) (n := 5501098) (by omega) (by omega) ?_
      subst args0
      exact lw_ret hC.x hC.b hC.r hC.lk dL_law_2322
    have hi6 : 6 * i + 6 ≤ L := l6 hL h2 c9
    obtain ⟨x4, e4⟩ : ∃ z, z = nI (6 * i) := ⟨_, rfl⟩
    have hk : ∀ (k : Nat) (K : Int32), K = nI k → k < 6 → vp_in (x4 + K) L := by
      intro k K hK hk
      have e : x4 + K = nI (6 * i + k) := by
        rw [e4, hK]
        exact (Int32.ofNat_add (6 * i) k).symm
      rw [e]
      exact vp_in_nI (by omega) (by omega)
    have a1 := hk 1 1 rfl (by omega)
    have a2 := hk 2 2 rfl (by omega)
    have a3 := hk 3 3 rfl (by omega)
    have a4 := hk 4 4 rfl (by omega)
    have a5 := hk 5 5 rfl (by omega)
    have hcl : 118 + 4644 * i + 4644 ≤ 1200128 := by omega
    have hsl : 66115 + 27909 * i + 27909 ≤ 5501098 := by omega
    have next : ∀ (w0 t0 : Option Nat) (tw : Option TD) (S : CS) (rdv : Option Nat) (tw' : Option (Nat → Nat)) (S' : MS) (ov : Nat → Int64) (H : Heap) (locs : List Loc) (ls : Array Slot), Inv tw S tw' S' → va_P D gCl (wL D ad am ao rf w0 t0 tw S rdv tw' S' ov) H → va_D A (wL D ad am ao rf w0 t0 tw S rdv tw' S' ov) → va_S A s.heap H locs → lv_has ls 7 (lL b ad am ao x4) → W p l e room_1 s m args below meth c H locs (118 + 4644 * i + 4644) (66115 + 27909 * i + 27909) (lw_Z below args s) (F0 m 2315 ls []) := by
      intro w0 t0 tw S rdv tw' S' ov H locs ls hI hP hD hS hl
      refine lv_iinc (v := nI (6 * (i + 1))) (lv' := lL b ad am ao (nI (6 * (i + 1)))) hC.x hC.b dL_law_2315 hl (k := 0) rfl ?_ (by decide) rfl (fun ls hl => ?_)
      · rw [e4]
        exact (Int32.ofNat_add (6 * i) 6).symm
      refine lv_goto (tgt := 23) hC.x hC.b dL_law_2318 (by decide) ?_
      have h := ih (i + 1) (by omega) (by omega) w0 t0 tw S rdv tw' S' ov H locs ls hI hP hD hS hl
      rw [show 118 + 4644 * (i + 1) = 118 + 4644 * i + 4644 by omega, show 66115 + 27909 * (i + 1) = 66115 + 27909 * i + 27909 by omega] at h
      exact h
    rw [← e4] at hl
    refine lv_aload_n hC.x hC.b dL_law_33 rfl (lv_at hl 4 rfl) ?_
    refine lv_iload hC.x hC.b dL_law_34 (lv_at hl 0 rfl) ?_
    refine va_sld hC.x hC.b hX hbl hbA hS (by rw [e4]; exact vp_in_nI (by omega) (by omega)) dL_law_36 ?_
    refine lv_bipush (v := 63) hC.x hC.b dL_law_37 (by decide) ?_
    refine lv_iand hC.x hC.b dL_law_39 ?_
    obtain ⟨x, ex⟩ : ∃ z, z = xs x4.toNatClampNeg &&& 63 := ⟨_, rfl⟩
    rw [← ex]
    by_cases c0 : x.toInt = 0
    · exact lv_tableIn (tgt := 300) hC.x hC.b dL_law_40 (by omega) (by omega) (by rw [c0]; rfl) (by decide) (lc_0 hC hX hbl hbA a1 a2 a3 a4 a5 hcl hsl (hAll.1 _ _ _ _ _) hI hP hD hS hl next)
    by_cases c1 : x.toInt = 1
    · exact lv_tableIn (tgt := 373) hC.x hC.b dL_law_40 (by omega) (by omega) (by rw [c1]; rfl) (by decide) (lc_1 hC hX hbl hbA a1 a2 a3 a4 a5 hcl hsl hz hst (hAll.2.1 _) hI hP hD hS hl next)
    by_cases c2 : x.toInt = 2
    · exact lv_tableIn (tgt := 398) hC.x hC.b dL_law_40 (by omega) (by omega) (by rw [c2]; rfl) (by decide) (lc_2 hC hX hbl hbA a1 a2 a3 a4 a5 hcl hsl (hAll.2.2.1) hI hP hD hS hl next)
    by_cases c3 : x.toInt = 3
    · exact lv_tableIn (tgt := 411) hC.x hC.b dL_law_40 (by omega) (by omega) (by rw [c3]; rfl) (by decide) (lc_3 hC hX hbl hbA a1 a2 a3 a4 a5 hcl hsl (hAll.2.2.2.1) hI hP hD hS hl next)
    by_cases c4 : x.toInt = 4
    · exact lv_tableIn (tgt := 424) hC.x hC.b dL_law_40 (by omega) (by omega) (by rw [c4]; rfl) (by decide) (lc_4 hC hX hbl hbA a1 a2 a3 a4 a5 hcl hsl (hAll.2.2.2.2.1 _ _) hI hP hD hS hl next)
    by_cases c5 : x.toInt = 5
    · exact lv_tableIn (tgt := 461) hC.x hC.b dL_law_40 (by omega) (by omega) (by rw [c5]; rfl) (by decide) (lc_5 hC hX hbl hbA a1 a2 a3 a4 a5 hcl hsl (hAll.2.2.2.2.2.1 _ _) hI hP hD hS hl next)
    by_cases c6 : x.toInt = 6
    · exact lv_tableIn (tgt := 498) hC.x hC.b dL_law_40 (by omega) (by omega) (by rw [c6]; rfl) (by decide) (lc_6 hC hX hbl hbA a1 a2 a3 a4 a5 hcl hsl (hAll.2.2.2.2.2.2.1 _) hI hP hD hS hl next)
    by_cases c7 : x.toInt = 7
    · exact lv_tableIn (tgt := 523) hC.x hC.b dL_law_40 (by omega) (by omega) (by rw [c7]; rfl) (by decide) (lc_7 hC hX hbl hbA a1 a2 a3 a4 a5 hcl hsl (hAll.2.2.2.2.2.2.2.1 _ _) hI hP hD hS hl next)
    by_cases c8 : x.toInt = 8
    · exact lv_tableIn (tgt := 560) hC.x hC.b dL_law_40 (by omega) (by omega) (by rw [c8]; rfl) (by decide) (lc_8 hC hX hbl hbA a1 a2 a3 a4 a5 hcl hsl (hAll.2.2.2.2.2.2.2.2.1 _ _ _) hI hP hD hS hl next)
    by_cases c9 : x.toInt = 9
    · exact lv_tableIn (tgt := 609) hC.x hC.b dL_law_40 (by omega) (by omega) (by rw [c9]; rfl) (by decide) (lc_9 hC hX hbl hbA a1 a2 a3 a4 a5 hcl hsl (hAll.2.2.2.2.2.2.2.2.2.1 _ _) hI hP hD hS hl next)
    by_cases c10 : x.toInt = 10
    · exact lv_tableIn (tgt := 646) hC.x hC.b dL_law_40 (by omega) (by omega) (by rw [c10]; rfl) (by decide) (lc_10 hC hX hbl hbA a1 a2 a3 a4 a5 hcl hsl (hAll.2.2.2.2.2.2.2.2.2.2.1 _ _) hI hP hD hS hl next)
    by_cases c11 : x.toInt = 11
    · exact lv_tableIn (tgt := 683) hC.x hC.b dL_law_40 (by omega) (by omega) (by rw [c11]; rfl) (by decide) (lc_11 hC hX hbl hbA a1 a2 a3 a4 a5 hcl hsl (hAll.2.2.2.2.2.2.2.2.2.2.2.1 _) hI hP hD hS hl next)
    by_cases c12 : x.toInt = 12
    · exact lv_tableIn (tgt := 708) hC.x hC.b dL_law_40 (by omega) (by omega) (by rw [c12]; rfl) (by decide) (lc_12 hC hX hbl hbA a1 a2 a3 a4 a5 hcl hsl (hAll.2.2.2.2.2.2.2.2.2.2.2.2.1 _) hI hP hD hS hl next)
    by_cases c13 : x.toInt = 13
    · exact lv_tableIn (tgt := 733) hC.x hC.b dL_law_40 (by omega) (by omega) (by rw [c13]; rfl) (by decide) (lc_13 hC hX hbl hbA a1 a2 a3 a4 a5 hcl hsl (hAll.2.2.2.2.2.2.2.2.2.2.2.2.2.1 _) hI hP hD hS hl next)
    by_cases c14 : x.toInt = 14
    · exact lv_tableIn (tgt := 758) hC.x hC.b dL_law_40 (by omega) (by omega) (by rw [c14]; rfl) (by decide) (lc_14 hC hX hbl hbA a1 a2 a3 a4 a5 hcl hsl (hAll.2.2.2.2.2.2.2.2.2.2.2.2.2.2.1 _ _) hI hP hD hS hl next)
    by_cases c15 : x.toInt = 15
    · exact lv_tableIn (tgt := 795) hC.x hC.b dL_law_40 (by omega) (by omega) (by rw [c15]; rfl) (by decide) (lc_15 hC hX hbl hbA a1 a2 a3 a4 a5 hcl hsl (hAll.2.2.2.2.2.2.2.2.2.2.2.2.2.2.2.1 _ _) hI hP hD hS hl next)
    by_cases c16 : x.toInt = 16
    · exact lv_tableIn (tgt := 832) hC.x hC.b dL_law_40 (by omega) (by omega) (by rw [c16]; rfl) (by decide) (lc_16 hC hX hbl hbA a1 a2 a3 a4 a5 hcl hsl (hAll.2.2.2.2.2.2.2.2.2.2.2.2.2.2.2.2.1 _) hI hP hD hS hl next)
    by_cases c17 : x.toInt = 17
    · exact lv_tableIn (tgt := 857) hC.x hC.b dL_law_40 (by omega) (by omega) (by rw [c17]; rfl) (by decide) (lc_17 hC hX hbl hbA a1 a2 a3 a4 a5 hcl hsl (hAll.2.2.2.2.2.2.2.2.2.2.2.2.2.2.2.2.2.1) hI hP hD hS hl next)
    by_cases c18 : x.toInt = 18
    · exact lv_tableIn (tgt := 870) hC.x hC.b dL_law_40 (by omega) (by omega) (by rw [c18]; rfl) (by decide) (lc_18 hC hX hbl hbA a1 a2 a3 a4 a5 hcl hsl (hAll.2.2.2.2.2.2.2.2.2.2.2.2.2.2.2.2.2.2.1) hI hP hD hS hl next)
    by_cases c19 : x.toInt = 19
    · exact lv_tableIn (tgt := 883) hC.x hC.b dL_law_40 (by omega) (by omega) (by rw [c19]; rfl) (by decide) (lc_19 hC hX hbl hbA a1 a2 a3 a4 a5 hcl hsl (hAll.2.2.2.2.2.2.2.2.2.2.2.2.2.2.2.2.2.2.2.1 _ _) hI hP hD hS hl next)
    by_cases c20 : x.toInt = 20
    · exact lv_tableIn (tgt := 920) hC.x hC.b dL_law_40 (by omega) (by omega) (by rw [c20]; rfl) (by decide) (lc_20 hC hX hbl hbA a1 a2 a3 a4 a5 hcl hsl (hAll.2.2.2.2.2.2.2.2.2.2.2.2.2.2.2.2.2.2.2.2.1 _ _ _) hI hP hD hS hl next)
    by_cases c21 : x.toInt = 21
    · exact lv_tableIn (tgt := 969) hC.x hC.b dL_law_40 (by omega) (by omega) (by rw [c21]; rfl) (by decide) (lc_21 hC hX hbl hbA a1 a2 a3 a4 a5 hcl hsl (hAll.2.2.2.2.2.2.2.2.2.2.2.2.2.2.2.2.2.2.2.2.2.1 _ _ _) hI hP hD hS hl next)
    by_cases c22 : x.toInt = 22
    · exact lv_tableIn (tgt := 1018) hC.x hC.b dL_law_40 (by omega) (by omega) (by rw [c22]; rfl) (by decide) (lc_22 hC hX hbl hbA a1 a2 a3 a4 a5 hcl hsl (hAll.2.2.2.2.2.2.2.2.2.2.2.2.2.2.2.2.2.2.2.2.2.2.1 _ _) hI hP hD hS hl next)
    by_cases c23 : x.toInt = 23
    · exact lv_tableIn (tgt := 1055) hC.x hC.b dL_law_40 (by omega) (by omega) (by rw [c23]; rfl) (by decide) (lc_23 hC hX hbl hbA a1 a2 a3 a4 a5 hcl hsl (hAll.2.2.2.2.2.2.2.2.2.2.2.2.2.2.2.2.2.2.2.2.2.2.2.1 _) hI hP hD hS hl next)
    by_cases c24 : x.toInt = 24
    · exact lv_tableIn (tgt := 1080) hC.x hC.b dL_law_40 (by omega) (by omega) (by rw [c24]; rfl) (by decide) (lc_24 hC hX hbl hbA a1 a2 a3 a4 a5 hcl hsl (hAll.2.2.2.2.2.2.2.2.2.2.2.2.2.2.2.2.2.2.2.2.2.2.2.2.1 _ _) hI hP hD hS hl next)
    by_cases c25 : x.toInt = 25
    · exact lv_tableIn (tgt := 1117) hC.x hC.b dL_law_40 (by omega) (by omega) (by rw [c25]; rfl) (by decide) (lc_25 hC hX hbl hbA a1 a2 a3 a4 a5 hcl hsl (hAll.2.2.2.2.2.2.2.2.2.2.2.2.2.2.2.2.2.2.2.2.2.2.2.2.2.1 _) hI hP hD hS hl next)
    by_cases c26 : x.toInt = 26
    · exact lv_tableIn (tgt := 1142) hC.x hC.b dL_law_40 (by omega) (by omega) (by rw [c26]; rfl) (by decide) (lc_26 hC hX hbl hbA a1 a2 a3 a4 a5 hcl hsl (hAll.2.2.2.2.2.2.2.2.2.2.2.2.2.2.2.2.2.2.2.2.2.2.2.2.2.2.1 _ _) hI hP hD hS hl next)
    by_cases c27 : x.toInt = 27
    · exact lv_tableIn (tgt := 1179) hC.x hC.b dL_law_40 (by omega) (by omega) (by rw [c27]; rfl) (by decide) (lc_27 hC hX hbl hbA a1 a2 a3 a4 a5 hcl hsl (hAll.2.2.2.2.2.2.2.2.2.2.2.2.2.2.2.2.2.2.2.2.2.2.2.2.2.2.2.1 _ _ _) hI hP hD hS hl next)
    by_cases c28 : x.toInt = 28
    · exact lv_tableIn (tgt := 1228) hC.x hC.b dL_law_40 (by omega) (by omega) (by rw [c28]; rfl) (by decide) (lc_28 hC hX hbl hbA a1 a2 a3 a4 a5 hcl hsl (hAll.2.2.2.2.2.2.2.2.2.2.2.2.2.2.2.2.2.2.2.2.2.2.2.2.2.2.2.2.1 _) hI hP hD hS hl next)
    by_cases c29 : x.toInt = 29
    · exact lv_tableIn (tgt := 1253) hC.x hC.b dL_law_40 (by omega) (by omega) (by rw [c29]; rfl) (by decide) (lc_29 hC hX hbl hbA a1 a2 a3 a4 a5 hcl hsl (hAll.2.2.2.2.2.2.2.2.2.2.2.2.2.2.2.2.2.2.2.2.2.2.2.2.2.2.2.2.2.1 _ _) hI hP hD hS hl next)
    by_cases c30 : x.toInt = 30
    · exact lv_tableIn (tgt := 1290) hC.x hC.b dL_law_40 (by omega) (by omega) (by rw [c30]; rfl) (by decide) (lc_30 hC hX hbl hbA a1 a2 a3 a4 a5 hcl hsl (hAll.2.2.2.2.2.2.2.2.2.2.2.2.2.2.2.2.2.2.2.2.2.2.2.2.2.2.2.2.2.2.1 _ _) hI hP hD hS hl next)
    by_cases c31 : x.toInt = 31
    · exact lv_tableIn (tgt := 1327) hC.x hC.b dL_law_40 (by omega) (by omega) (by rw [c31]; rfl) (by decide) (lc_31 hC hX hbl hbA a1 a2 a3 a4 a5 hcl hsl (hAll.2.2.2.2.2.2.2.2.2.2.2.2.2.2.2.2.2.2.2.2.2.2.2.2.2.2.2.2.2.2.2.1 _) hI hP hD hS hl next)
    by_cases c32 : x.toInt = 32
    · exact lv_tableIn (tgt := 1352) hC.x hC.b dL_law_40 (by omega) (by omega) (by rw [c32]; rfl) (by decide) (lc_32 hC hX hbl hbA a1 a2 a3 a4 a5 hcl hsl (hAll.2.2.2.2.2.2.2.2.2.2.2.2.2.2.2.2.2.2.2.2.2.2.2.2.2.2.2.2.2.2.2.2.1 _ _) hI hP hD hS hl next)
    by_cases c33 : x.toInt = 33
    · exact lv_tableIn (tgt := 1389) hC.x hC.b dL_law_40 (by omega) (by omega) (by rw [c33]; rfl) (by decide) (lc_33 hC hX hbl hbA a1 a2 a3 a4 a5 hcl hsl (hAll.2.2.2.2.2.2.2.2.2.2.2.2.2.2.2.2.2.2.2.2.2.2.2.2.2.2.2.2.2.2.2.2.2.1 _ _) hI hP hD hS hl next)
    by_cases c34 : x.toInt = 34
    · exact lv_tableIn (tgt := 1426) hC.x hC.b dL_law_40 (by omega) (by omega) (by rw [c34]; rfl) (by decide) (lc_34 hC hX hbl hbA a1 a2 a3 a4 a5 hcl hsl (hAll.2.2.2.2.2.2.2.2.2.2.2.2.2.2.2.2.2.2.2.2.2.2.2.2.2.2.2.2.2.2.2.2.2.2.1 _ _ _) hI hP hD hS hl next)
    by_cases c35 : x.toInt = 35
    · exact lv_tableIn (tgt := 1475) hC.x hC.b dL_law_40 (by omega) (by omega) (by rw [c35]; rfl) (by decide) (lc_35 hC hX hbl hbA a1 a2 a3 a4 a5 hcl hsl (hAll.2.2.2.2.2.2.2.2.2.2.2.2.2.2.2.2.2.2.2.2.2.2.2.2.2.2.2.2.2.2.2.2.2.2.2.1) hI hP hD hS hl next)
    by_cases c36 : x.toInt = 36
    · exact lv_tableIn (tgt := 1488) hC.x hC.b dL_law_40 (by omega) (by omega) (by rw [c36]; rfl) (by decide) (lc_36 hC hX hbl hbA a1 a2 a3 a4 a5 hcl hsl (hAll.2.2.2.2.2.2.2.2.2.2.2.2.2.2.2.2.2.2.2.2.2.2.2.2.2.2.2.2.2.2.2.2.2.2.2.2.1 _) hI hP hD hS hl next)
    by_cases c37 : x.toInt = 37
    · exact lv_tableIn (tgt := 1513) hC.x hC.b dL_law_40 (by omega) (by omega) (by rw [c37]; rfl) (by decide) (lc_37 hC hX hbl hbA a1 a2 a3 a4 a5 hcl hsl (hAll.2.2.2.2.2.2.2.2.2.2.2.2.2.2.2.2.2.2.2.2.2.2.2.2.2.2.2.2.2.2.2.2.2.2.2.2.2.1) hI hP hD hS hl next)
    by_cases c38 : x.toInt = 38
    · exact lv_tableIn (tgt := 1526) hC.x hC.b dL_law_40 (by omega) (by omega) (by rw [c38]; rfl) (by decide) (lc_38 hC hX hbl hbA a1 a2 a3 a4 a5 hcl hsl (hAll.2.2.2.2.2.2.2.2.2.2.2.2.2.2.2.2.2.2.2.2.2.2.2.2.2.2.2.2.2.2.2.2.2.2.2.2.2.2.1) hI hP hD hS hl next)
    by_cases c39 : x.toInt = 39
    · exact lv_tableIn (tgt := 1539) hC.x hC.b dL_law_40 (by omega) (by omega) (by rw [c39]; rfl) (by decide) (lc_39 hC hX hbl hbA a1 a2 a3 a4 a5 hcl hsl (hAll.2.2.2.2.2.2.2.2.2.2.2.2.2.2.2.2.2.2.2.2.2.2.2.2.2.2.2.2.2.2.2.2.2.2.2.2.2.2.2.1) hI hP hD hS hl next)
    by_cases c40 : x.toInt = 40
    · exact lv_tableIn (tgt := 1552) hC.x hC.b dL_law_40 (by omega) (by omega) (by rw [c40]; rfl) (by decide) (lc_40 hC hX hbl hbA a1 a2 a3 a4 a5 hcl hsl (hAll.2.2.2.2.2.2.2.2.2.2.2.2.2.2.2.2.2.2.2.2.2.2.2.2.2.2.2.2.2.2.2.2.2.2.2.2.2.2.2.2.1) hI hP hD hS hl next)
    by_cases c41 : x.toInt = 41
    · exact lv_tableIn (tgt := 1565) hC.x hC.b dL_law_40 (by omega) (by omega) (by rw [c41]; rfl) (by decide) (lc_41 hC hX hbl hbA a1 a2 a3 a4 a5 hcl hsl (hAll.2.2.2.2.2.2.2.2.2.2.2.2.2.2.2.2.2.2.2.2.2.2.2.2.2.2.2.2.2.2.2.2.2.2.2.2.2.2.2.2.2.1) hI hP hD hS hl next)
    by_cases c42 : x.toInt = 42
    · exact lv_tableIn (tgt := 1578) hC.x hC.b dL_law_40 (by omega) (by omega) (by rw [c42]; rfl) (by decide) (lc_42 hC hX hbl hbA a1 a2 a3 a4 a5 hcl hsl (hAll.2.2.2.2.2.2.2.2.2.2.2.2.2.2.2.2.2.2.2.2.2.2.2.2.2.2.2.2.2.2.2.2.2.2.2.2.2.2.2.2.2.2.1 _ _ _ _) hI hP hD hS hl next)
    by_cases c43 : x.toInt = 43
    · exact lv_tableIn (tgt := 1687) hC.x hC.b dL_law_40 (by omega) (by omega) (by rw [c43]; rfl) (by decide) (lc_43 hC hX hbl hbA a1 a2 a3 a4 a5 hcl hsl (hAll.2.2.2.2.2.2.2.2.2.2.2.2.2.2.2.2.2.2.2.2.2.2.2.2.2.2.2.2.2.2.2.2.2.2.2.2.2.2.2.2.2.2.2.1 _) hI hP hD hS hl next)
    by_cases c44 : x.toInt = 44
    · exact lv_tableIn (tgt := 1712) hC.x hC.b dL_law_40 (by omega) (by omega) (by rw [c44]; rfl) (by decide) (lc_44 hC hX hbl hbA a1 a2 a3 a4 a5 hcl hsl (hAll.2.2.2.2.2.2.2.2.2.2.2.2.2.2.2.2.2.2.2.2.2.2.2.2.2.2.2.2.2.2.2.2.2.2.2.2.2.2.2.2.2.2.2.2.1 _) hI hP hD hS hl next)
    by_cases c45 : x.toInt = 45
    · exact lv_tableIn (tgt := 1737) hC.x hC.b dL_law_40 (by omega) (by omega) (by rw [c45]; rfl) (by decide) (lc_45 hC hX hbl hbA a1 a2 a3 a4 a5 hcl hsl (hAll.2.2.2.2.2.2.2.2.2.2.2.2.2.2.2.2.2.2.2.2.2.2.2.2.2.2.2.2.2.2.2.2.2.2.2.2.2.2.2.2.2.2.2.2.2.1 _ _ _) hI hP hD hS hl next)
    by_cases c46 : x.toInt = 46
    · exact lv_tableIn (tgt := 1803) hC.x hC.b dL_law_40 (by omega) (by omega) (by rw [c46]; rfl) (by decide) (lc_46 hC hX hbl hbA a1 a2 a3 a4 a5 hcl hsl (hAll.2.2.2.2.2.2.2.2.2.2.2.2.2.2.2.2.2.2.2.2.2.2.2.2.2.2.2.2.2.2.2.2.2.2.2.2.2.2.2.2.2.2.2.2.2.2.1 _ _ _) hI hP hD hS hl next)
    by_cases c47 : x.toInt = 47
    · exact lv_tableIn (tgt := 1869) hC.x hC.b dL_law_40 (by omega) (by omega) (by rw [c47]; rfl) (by decide) (lc_47 hC hX hbl hbA a1 a2 a3 a4 a5 hcl hsl (hAll.2.2.2.2.2.2.2.2.2.2.2.2.2.2.2.2.2.2.2.2.2.2.2.2.2.2.2.2.2.2.2.2.2.2.2.2.2.2.2.2.2.2.2.2.2.2.2.1 _ _ _) hI hP hD hS hl next)
    by_cases c48 : x.toInt = 48
    · exact lv_tableIn (tgt := 1935) hC.x hC.b dL_law_40 (by omega) (by omega) (by rw [c48]; rfl) (by decide) (lc_48 hC hX hbl hbA a1 a2 a3 a4 a5 hcl hsl (hAll.2.2.2.2.2.2.2.2.2.2.2.2.2.2.2.2.2.2.2.2.2.2.2.2.2.2.2.2.2.2.2.2.2.2.2.2.2.2.2.2.2.2.2.2.2.2.2.2.1 _ _ _) hI hP hD hS hl next)
    by_cases c49 : x.toInt = 49
    · exact lv_tableIn (tgt := 1984) hC.x hC.b dL_law_40 (by omega) (by omega) (by rw [c49]; rfl) (by decide) (lc_49 hC hX hbl hbA a1 a2 a3 a4 a5 hcl hsl (hAll.2.2.2.2.2.2.2.2.2.2.2.2.2.2.2.2.2.2.2.2.2.2.2.2.2.2.2.2.2.2.2.2.2.2.2.2.2.2.2.2.2.2.2.2.2.2.2.2.2.1 _ _) hI hP hD hS hl next)
    by_cases c50 : x.toInt = 50
    · exact lv_tableIn (tgt := 2021) hC.x hC.b dL_law_40 (by omega) (by omega) (by rw [c50]; rfl) (by decide) (lc_50 hC hX hbl hbA a1 a2 a3 a4 a5 hcl hsl (hAll.2.2.2.2.2.2.2.2.2.2.2.2.2.2.2.2.2.2.2.2.2.2.2.2.2.2.2.2.2.2.2.2.2.2.2.2.2.2.2.2.2.2.2.2.2.2.2.2.2.2.1) hI hP hD hS hl next)
    by_cases c51 : x.toInt = 51
    · exact lv_tableIn (tgt := 2034) hC.x hC.b dL_law_40 (by omega) (by omega) (by rw [c51]; rfl) (by decide) (lc_51 hC hX hbl hbA a1 a2 a3 a4 a5 hcl hsl (hAll.2.2.2.2.2.2.2.2.2.2.2.2.2.2.2.2.2.2.2.2.2.2.2.2.2.2.2.2.2.2.2.2.2.2.2.2.2.2.2.2.2.2.2.2.2.2.2.2.2.2.2.1 _ _) hI hP hD hS hl next)
    by_cases c52 : x.toInt = 52
    · exact lv_tableIn (tgt := 2071) hC.x hC.b dL_law_40 (by omega) (by omega) (by rw [c52]; rfl) (by decide) (lc_52 hC hX hbl hbA a1 a2 a3 a4 a5 hcl hsl (hAll.2.2.2.2.2.2.2.2.2.2.2.2.2.2.2.2.2.2.2.2.2.2.2.2.2.2.2.2.2.2.2.2.2.2.2.2.2.2.2.2.2.2.2.2.2.2.2.2.2.2.2.2.1 _ _) hI hP hD hS hl next)
    by_cases c53 : x.toInt = 53
    · exact lv_tableIn (tgt := 2108) hC.x hC.b dL_law_40 (by omega) (by omega) (by rw [c53]; rfl) (by decide) (lc_53 hC hX hbl hbA a1 a2 a3 a4 a5 hcl hsl (hAll.2.2.2.2.2.2.2.2.2.2.2.2.2.2.2.2.2.2.2.2.2.2.2.2.2.2.2.2.2.2.2.2.2.2.2.2.2.2.2.2.2.2.2.2.2.2.2.2.2.2.2.2.2.1 _) hI hP hD hS hl next)
    by_cases c54 : x.toInt = 54
    · exact lv_tableIn (tgt := 2133) hC.x hC.b dL_law_40 (by omega) (by omega) (by rw [c54]; rfl) (by decide) (lc_54 hC hX hbl hbA a1 a2 a3 a4 a5 hcl hsl (hAll.2.2.2.2.2.2.2.2.2.2.2.2.2.2.2.2.2.2.2.2.2.2.2.2.2.2.2.2.2.2.2.2.2.2.2.2.2.2.2.2.2.2.2.2.2.2.2.2.2.2.2.2.2.2.1 _ _) hI hP hD hS hl next)
    by_cases c55 : x.toInt = 55
    · exact lv_tableIn (tgt := 2170) hC.x hC.b dL_law_40 (by omega) (by omega) (by rw [c55]; rfl) (by decide) (lc_55 hC hX hbl hbA a1 a2 a3 a4 a5 hcl hsl (hAll.2.2.2.2.2.2.2.2.2.2.2.2.2.2.2.2.2.2.2.2.2.2.2.2.2.2.2.2.2.2.2.2.2.2.2.2.2.2.2.2.2.2.2.2.2.2.2.2.2.2.2.2.2.2.2.1) hI hP hD hS hl next)
    by_cases c56 : x.toInt = 56
    · exact lv_tableIn (tgt := 2183) hC.x hC.b dL_law_40 (by omega) (by omega) (by rw [c56]; rfl) (by decide) (lc_56 hC hX hbl hbA a1 a2 a3 a4 a5 hcl hsl (hAll.2.2.2.2.2.2.2.2.2.2.2.2.2.2.2.2.2.2.2.2.2.2.2.2.2.2.2.2.2.2.2.2.2.2.2.2.2.2.2.2.2.2.2.2.2.2.2.2.2.2.2.2.2.2.2.2.1) hI hP hD hS hl next)
    by_cases c57 : x.toInt = 57
    · exact lv_tableIn (tgt := 2196) hC.x hC.b dL_law_40 (by omega) (by omega) (by rw [c57]; rfl) (by decide) (lc_57 hC hX hbl hbA a1 a2 a3 a4 a5 hcl hsl (hAll.2.2.2.2.2.2.2.2.2.2.2.2.2.2.2.2.2.2.2.2.2.2.2.2.2.2.2.2.2.2.2.2.2.2.2.2.2.2.2.2.2.2.2.2.2.2.2.2.2.2.2.2.2.2.2.2.2.1 _) hI hP hD hS hl next)
    by_cases c58 : x.toInt = 58
    · exact lv_tableIn (tgt := 2221) hC.x hC.b dL_law_40 (by omega) (by omega) (by rw [c58]; rfl) (by decide) (lc_58 hC hX hbl hbA a1 a2 a3 a4 a5 hcl hsl hz hst (hAll.2.2.2.2.2.2.2.2.2.2.2.2.2.2.2.2.2.2.2.2.2.2.2.2.2.2.2.2.2.2.2.2.2.2.2.2.2.2.2.2.2.2.2.2.2.2.2.2.2.2.2.2.2.2.2.2.2.2.1 _) hI hP hD hS hl next)
    by_cases c59 : x.toInt = 59
    · exact lv_tableIn (tgt := 2277) hC.x hC.b dL_law_40 (by omega) (by omega) (by rw [c59]; rfl) (by decide) (lc_59 hC hX hbl hbA a1 a2 a3 a4 a5 hcl hsl (hAll.2.2.2.2.2.2.2.2.2.2.2.2.2.2.2.2.2.2.2.2.2.2.2.2.2.2.2.2.2.2.2.2.2.2.2.2.2.2.2.2.2.2.2.2.2.2.2.2.2.2.2.2.2.2.2.2.2.2.2.1 _) hI hP hD hS hl next)
    by_cases c60 : x.toInt = 60
    · exact lv_tableIn (tgt := 2302) hC.x hC.b dL_law_40 (by omega) (by omega) (by rw [c60]; rfl) (by decide) (lc_60 hC hX hbl hbA a1 a2 a3 a4 a5 hcl hsl (hAll.2.2.2.2.2.2.2.2.2.2.2.2.2.2.2.2.2.2.2.2.2.2.2.2.2.2.2.2.2.2.2.2.2.2.2.2.2.2.2.2.2.2.2.2.2.2.2.2.2.2.2.2.2.2.2.2.2.2.2.2) hI hP hD hS hl next)
    refine lv_tableOut (tgt := 2315) hC.x hC.b dL_law_40 (by omega) (by decide) ?_
    refine W.widen (k := 118 + 4644 * i + 4644) (n := 66115 + 27909 * i + 27909) (by omega) (by omega) ?_
    exact next _ _ _ _ _ _ _ _ _ _ _ hI hP hD hS hl
end LAWD
