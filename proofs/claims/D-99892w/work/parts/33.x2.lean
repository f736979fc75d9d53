set_option maxRecDepth 100000
section XWb
variable {p : Program} {l : Launch} {e : Env} {s : State} {m : MethodId} {args : Array Value} {below : List Frame} {meth : Method} {c : Code} {D : va_G} {Z : State → Prop} {Hb : Heap} {A : Nat → Prop} {ad : Nat → Nat} {rf : Nat → Value} {tw : Option TD} {F : va_W}
theorem vX2_2_line : GoodIn lw_all (wsV RX2 133 RX2 yX2_line (ws_ yX2_line cX2_line 3 none)) := lw_V q611 q613 qs6 q119 q614
def zeroC : CS := ((fun _ _ => 0, fun _ _ => 0), fun _ => none, fun _ => 0)
def tau0 (u : Nat → Nat) (a : Nat) : TD := (fun j => if j = 0 then a else u j, fun _ => 0, 0, 0, fun _ => 0)
def f2_read_29 (post : TD → XS → Prop) (xpost : CS × Option Nat × Option Nat → Prop) (K : TD × XS → Prop) (tau : TD) (S : XS) : Prop :=
  (S.1.1.1 14 5 = 59 → w2_step (fun S1 => w2_line (fun t2 S2 => K (t2, S2)) xpost tau S1) tau S) ∧
  (¬ S.1.1.1 14 5 = 59 → (¬ S.1.1.1 14 5 = 0 → w2_fail (fun S1 => xpost (S1.1, S1.2.1, some (tau.1 0))) tau S 1) ∧ (S.1.1.1 14 5 = 0 → (S.2.2.1.1.1 50 6 = 0 → w2_fail (fun S1 => xpost (S1.1, S1.2.1, some (tau.1 0))) tau S 6) ∧ (¬ S.2.2.1.1.1 50 6 = 0 → (¬ S.2.2.1.1.1 50 8 = 0 → post tau S) ∧ (S.2.2.1.1.1 50 8 = 0 → w2_fail (fun S1 => xpost (S1.1, S1.2.1, some (tau.1 0))) tau S 6))))
set_option maxHeartbeats 8000000 in
theorem k2_read_29 {post : TD → XS → Prop} {xpost : CS × Option Nat × Option Nat → Prop} {x1 : Int32} (hC : CX RX2 cX2_read 2 (some (.object "SeanceStreet$Town")) D gCl nwG Z Hb A p s m args meth c) {adK adV : Nat → Nat} (hZ : ∀ U, Z U → zS adK adV A Hb U) (hout : ∀ x ∈ c.exceptionTable.toList, False) :
    ∀ (n cells slots : Nat) (z : TD × XS), cells + n * 23 ≤ 4630 → slots + n * 138 ≤ 27790 → lpn (fun (K : TD × XS → Prop) (z : TD × XS) => f2_read_29 post xpost K z.1 z.2) n z → ∀ (H : Heap) (locs : List Loc) (ls : Array Slot), va_P D gCl (wX D ad rf tw [] z.1 z.2) H → va_D A (wX D ad rf tw [] z.1 z.2) → va_S A s.heap H locs → lv_has ls 2 [(0, .ref (ad 14)), (1, .int x1)] → W p l e ({ frames := 10, cells := 4630, slots := 27790, locals := 333 } : Room) s m args below meth c H locs cells slots (tx_MQ below (va_Qr (fun _ => True) (fun (u : TD × XS) x t => (x = u.1.1 0 ∧ post u.1 u.2) ∧ BW D gCl A (fun u => wX D ad rf tw [] u.1 u.2) u t) A) (tx_X xpost (XB D ad rf tw A) A) args s 4630 27790 A) (F0 m 29 ls []) := by
  intro n
  induction n with
  | zero => intro cells slots z _ _ hw; exact hw.elim
  | succ n ih =>
    rintro cells slots ⟨tau, S⟩ hc hs hw H locs ls hP hD hS hl
    have hw : f2_read_29 post xpost (lpn (fun (K : TD × XS → Prop) (z : TD × XS) => f2_read_29 post xpost K z.1 z.2) n) tau S := hw
    unfold f2_read_29 at hw
    have hP : va_P D gCl (wX D ad rf tw [] tau S) H := hP
    have hD : va_D A (wX D ad rf tw [] tau S) := hD
    refine lv_aload_n hC.x hC.b dX2_read_29 rfl (lv_at hl 0 rfl) ?_
    refine gXS_5 hC hP dX2_read_30 ?_
    refine lv_bipush (v := 59) hC.x hC.b dX2_read_33 (by decide) ?_
    refine lv_icmp_ne (tgt := 49) hC.x hC.b dX2_read_35 (by decide) (fun c0 => ?_) (fun c0 => ?_)
    rotate_left
    · have hw := hw.1 c0
      refine lv_aload_n hC.x hC.b dX2_read_38 rfl (lv_at hl 0 rfl) ?_
      refine go_v (run_V (rest := []) hC (m2_step l hZ hw) vX2_2_step h2_step (([] : va_W).length + 14) 1 gCl_X2 (wX_c (xc_f (by omega) rfl)) rfl ⟨rfl, rfl, Nat.le_of_ble_eq_true rfl, Nat.le_of_ble_eq_true rfl⟩ ⟨(show cells + 2 ≤ 4630 by omega), (show slots + 12 ≤ 27790 by omega)⟩ hP hD hS hl.1 (Nat.le_of_ble_eq_true rfl) dX2_read_39 rfl) hS (fun S1 H locs hw hP hD hS => ?_)
      refine lv_aload_n hC.x hC.b dX2_read_42 rfl (lv_at hl 0 rfl) ?_
      refine gx_v hC hout (run_VX (rest := []) hC (m2_line l hZ hw) vX2_2_line h2_line (([] : va_W).length + 14) 1 gCl_X2 (wX_c (xc_f (by omega) rfl)) rfl ⟨rfl, rfl, Nat.le_of_ble_eq_true rfl, Nat.le_of_ble_eq_true rfl⟩ ⟨(show cells + 2 + 21 ≤ 4630 by omega), (show slots + 12 + 126 ≤ 27790 by omega)⟩ hP hD hS hl.1 (Nat.le_of_ble_eq_true rfl) dX2_read_43 rfl) (by omega) (by omega) hS (fun u H locs hw hP hD hS => ?_)
      obtain ⟨t2, S2⟩ := u
      refine lv_goto (tgt := 29) hC.x hC.b dX2_read_46 (by decide) ?_
      exact ih _ _ (t2, S2) (by omega) (by omega) hw H locs ls hP hD hS hl
    have hw := hw.2 c0
    refine lv_aload_n hC.x hC.b dX2_read_49 rfl (lv_at hl 0 rfl) ?_
    refine gXS_5 hC hP dX2_read_50 ?_
    refine lv_if_eq (tgt := 62) hC.x hC.b dX2_read_53 (by decide) (fun c1 => ?_) (fun c1 => ?_)
    rotate_left
    · have hw := hw.1 c1
      refine lv_aload_n hC.x hC.b dX2_read_56 rfl (lv_at hl 0 rfl) ?_
      refine lv_iconst (v := 1) hC.x hC.b dX2_read_57 (by decide) ?_
      refine go_rr (run_V (rest := []) hC (m2_fail l hZ hw) vX2_2_fail h2_fail (([] : va_W).length + 14) 1 gCl_X2 (wX_c (xc_f (by omega) rfl)) rfl ⟨rfl, rfl, Nat.le_of_ble_eq_true rfl, Nat.le_of_ble_eq_true rfl⟩ ⟨(show cells + 0 ≤ 4630 by omega), (show slots + 0 ≤ 27790 by omega)⟩ hP hD hS hl.1 (Nat.le_of_ble_eq_true rfl) dX2_read_58 rfl) hS (fun r S1 H locs hwf hP hD hS => ?_)
      obtain ⟨rfl, hwf⟩ := hwf
      exact gx_throw hC hout hwf hP hD hS (by omega) (by omega) dX2_read_61
    have hw := hw.2 c1
    refine lv_aload_n hC.x hC.b dX2_read_62 rfl (lv_at hl 0 rfl) ?_
    refine gXS_9 hC hP dX2_read_63 ?_
    refine gXTX2_6 hC hP dX2_read_66 ?_
    refine lv_if_eq (tgt := 82) hC.x hC.b dX2_read_69 (by decide) (fun c2 => ?_) (fun c2 => ?_)
    · have hw := hw.1 c2
      refine lv_aload_n hC.x hC.b dX2_read_82 rfl (lv_at hl 0 rfl) ?_
      refine lv_bipush (v := 6) hC.x hC.b dX2_read_83 (by decide) ?_
      refine go_rr (run_V (rest := []) hC (m2_fail l hZ hw) vX2_2_fail h2_fail (([] : va_W).length + 14) 1 gCl_X2 (wX_c (xc_f (by omega) rfl)) rfl ⟨rfl, rfl, Nat.le_of_ble_eq_true rfl, Nat.le_of_ble_eq_true rfl⟩ ⟨(show cells + 0 ≤ 4630 by omega), (show slots + 0 ≤ 27790 by omega)⟩ hP hD hS hl.1 (Nat.le_of_ble_eq_true rfl) dX2_read_85 rfl) hS (fun r S1 H locs hwf hP hD hS => ?_)
      obtain ⟨rfl, hwf⟩ := hwf
      exact gx_throw hC hout hwf hP hD hS (by omega) (by omega) dX2_read_88
    have hw := hw.2 c2
    refine lv_aload_n hC.x hC.b dX2_read_72 rfl (lv_at hl 0 rfl) ?_
    refine gXS_9 hC hP dX2_read_73 ?_
    refine gXTX2_8 hC hP dX2_read_76 ?_
    refine lv_if_ne (tgt := 89) hC.x hC.b dX2_read_79 (by decide) (fun c3 => ?_) (fun c3 => ?_)
    · have hw := hw.1 c3
      refine lv_aload_n hC.x hC.b dX2_read_89 rfl (lv_at hl 0 rfl) ?_
      refine gXS_9 hC hP dX2_read_90 ?_
      refine tx_ret ?_
      refine W.widen (k := 4630) (n := 27790) (by omega) (by omega) ?_
      exact W.aret (v := .ref (tau.1 0)) hC.x hC.b hC.r (Or.inl ⟨_, rfl⟩) (Or.inr ⟨_, rfl⟩) (fun t ht _ => ⟨⟨(tau, S), tau.1 0, rfl, trivial, ⟨rfl, hw⟩, by rw [ht]; exact hP, hD⟩, hS.F ht⟩) hS.2.2 dX2_read_93 hC.lk
    · have hw := hw.2 c3
      refine lv_aload_n hC.x hC.b dX2_read_82 rfl (lv_at hl 0 rfl) ?_
      refine lv_bipush (v := 6) hC.x hC.b dX2_read_83 (by decide) ?_
      refine go_rr (run_V (rest := []) hC (m2_fail l hZ hw) vX2_2_fail h2_fail (([] : va_W).length + 14) 1 gCl_X2 (wX_c (xc_f (by omega) rfl)) rfl ⟨rfl, rfl, Nat.le_of_ble_eq_true rfl, Nat.le_of_ble_eq_true rfl⟩ ⟨(show cells + 0 ≤ 4630 by omega), (show slots + 0 ≤ 27790 by omega)⟩ hP hD hS hl.1 (Nat.le_of_ble_eq_true rfl) dX2_read_85 rfl) hS (fun r S1 H locs hwf hP hD hS => ?_)
      obtain ⟨rfl, hwf⟩ := hwf
      exact gx_throw hC hout hwf hP hD hS (by omega) (by omega) dX2_read_88
def w2_read (post : TD → XS → Prop) (xpost : CS × Option Nat × Option Nat → Prop) (w0 : Option Nat) (S : CS) (x1 : Int32) : Prop :=
  ∀ (u : Nat → Nat) (a : Nat), ∀ S0 : XS, S0 = (sI (sI S 14 3 x1) 14 4 0, w0, zeroC, []) → w2_step (fun S1 => w2_line (fun t2 S2 => lpn (fun (K : TD × XS → Prop) (z : TD × XS) => f2_read_29 post xpost K z.1 z.2) 200 (t2, S2)) xpost (tau0 u a) S1) (tau0 u a) S0
theorem eSc_3 {sc : Option Nat × Option Nat × (Nat → Value)} {S : CS} {v : Int32} : (wC D ad sc tw S).set 14 (ad 14, .inr (1, (obS ad sc S).set 3 (.int v))) = wC D ad sc tw (sI S 14 3 v) := wC_setF (by omega) rfl (fun a h => sA_ne (by omega)) rfl
theorem eSc_4 {sc : Option Nat × Option Nat × (Nat → Value)} {S : CS} {v : Int32} : (wC D ad sc tw S).set 14 (ad 14, .inr (1, (obS ad sc S).set 4 (.int v))) = wC D ad sc tw (sI S 14 4 v) := wC_setF (by omega) rfl (fun a h => sA_ne (by omega)) rfl
theorem eSc_9 {w0 t0 : Option Nat} {S : CS} {v : Option Nat} : (wC D ad (w0, t0, rf) tw S).set 14 (ad 14, .inr (1, (obS ad (w0, t0, rf) S).set 9 (va_rf v))) = wC D ad (w0, v, rf) tw S := by
  unfold wC
  rw [List.set_append_left _ _ (by rw [fx_len]; omega)]
  rfl
theorem hX2_read : yX2_read.cls = RX2 ∧ yX2_read.cls ≠ "java/lang/invoke/MethodHandle" ∧ yX2_read.cls ≠ "java/lang/invoke/VarHandle" ∧ (parseMethodDescriptor yX2_read.desc).map (fun d => d.parameters.length) = some 1 := by decide +kernel
theorem nt_eq {u : Nat → Nat} {a : Nat} : [(a, .inr (6, [.ref (u 1), .ref (u 2), .ref (u 3), .ref (u 4), .ref (u 5), .ref (u 6), .int 0, .int 0, .int 0, .int 0, .int 0, .int 0])), ((u 1), .inl (D.1 104, 6, .inr (.inr (.inr (.inr (fun _ => none)))))), ((u 2), .inl (D.1 105, 6, .inr (.inr (.inr (.inr (fun _ => none)))))), ((u 3), .inl (D.1 100, 4, .inl (fun _ => 0))), ((u 4), .inl (D.1 100, 8, .inl (fun _ => 0))), ((u 5), .inl (D.1 100, 8, .inl (fun _ => 0))), ((u 6), .inl (D.1 100, 8, .inl (fun _ => 0)))] = tbC D (some (tau0 u a)) zeroC := by
  have f1 : ∀ t : Nat → Nat, (fun i => if i < 0 then some (t i) else none) = fun _ => (none : Option Nat) := fun t => funext fun i => if_neg (Nat.not_lt_zero i)
  show _ = tb7 D (tau0 u a) zeroC ++ (tbP (tau0 u a) zeroC ++ tbG (tau0 u a) zeroC)
  have e1 : tbP (tau0 u a) zeroC = [] := rfl
  have e2 : tbG (tau0 u a) zeroC = [] := rfl
  rw [e1, e2]
  unfold tb7
  have g1 : (fun i => if i < (tau0 u a).2.2.1 then some ((tau0 u a).1 (10 + i)) else none) = fun _ => (none : Option Nat) := f1 (fun i => (tau0 u a).1 (10 + i))
  have g2 : (fun i => if i < (tau0 u a).2.2.2.1 then some ((tau0 u a).1 (20 + i)) else none) = fun _ => (none : Option Nat) := f1 (fun i => (tau0 u a).1 (20 + i))
  rw [g1, g2]
  rfl
set_option maxHeartbeats 8000000 in
theorem m2_read (l : Launch) {post : TD → XS → Prop} {xpost : CS × Option Nat × Option Nat → Prop} {w0 t0 : Option Nat} {S : CS} {x1 : Int32} {adK adV : Nat → Nat} (hZ : ∀ U, Z U → zS adK adV A Hb U) (hw : w2_read post xpost w0 S x1) : tx_Met l yX2_read (ws_ yX2_read cX2_read 2 (some (.object "SeanceStreet$Town"))) ({ frames := 10, cells := 4630, slots := 27790, locals := 333 } : Room) (va_Pc [.ref (ad 14), .int x1] (PcG D gCl nwG Z Hb A (wC D ad (w0, t0, rf) tw S))) (va_Qr (fun _ => True) (fun (u : TD × XS) x t => (x = u.1.1 0 ∧ post u.1 u.2) ∧ BW D gCl A (fun u => wX D ad rf tw [] u.1 u.2) u t) A) (tx_X xpost (XB D ad rf tw A) A) 4630 27790 A := by
  refine tx_ofG (by decide) (Nat.le_of_ble_eq_true rfl) ?_
  intro p e s m below meth c ls hC hout hP hD hS hl
  have hC : CX RX2 cX2_read 2 (some (.object "SeanceStreet$Town")) D gCl nwG Z Hb A p s m _ meth c := hC
  have hl : lv_has ls 2 [(0, .ref (ad 14)), (1, .int x1)] := hl
  unfold w2_read at hw
  refine lv_aload_n hC.x hC.b dX2_read_0 rfl (lv_at hl 0 rfl) ?_
  refine lv_iload_n hC.x hC.b dX2_read_1 rfl (lv_at hl 1 rfl) ?_
  refine va_put (D := D) (ci := 1) (fs := obS ad (w0, t0, rf) S) (v := .int x1) (ty := .int) (C := RX2) (T := TX2) (N := 10) hC.x hC.b hC.ts in_X2 tyX2 tyX2_ok nmX2 hC.ow hC.K.1 hP hD hS 14 (wC_f (by omega) rfl) gCl_X2 3 (by decide) (hC.ts _ q235) (fun _ h9 => h9) rfl (by decide +kernel) rfl rfl (Nat.le_of_ble_eq_true rfl) dX2_read_2 (fun H locs hP hD hS => ?_)
  rw [eSc_3] at hP hD
  refine lv_aload_n hC.x hC.b dX2_read_5 rfl (lv_at hl 0 rfl) ?_
  refine lv_iconst (v := 0) hC.x hC.b dX2_read_6 (by decide) ?_
  refine va_put (D := D) (ci := 1) (fs := obS ad (w0, t0, rf) (sI S 14 3 x1)) (v := .int 0) (ty := .int) (C := RX2) (T := TX2) (N := 10) hC.x hC.b hC.ts in_X2 tyX2 tyX2_ok nmX2 hC.ow hC.K.1 hP hD hS 14 (wC_f (by omega) rfl) gCl_X2 4 (by decide) (hC.ts _ q236) (fun _ h9 => h9) rfl (by decide +kernel) rfl rfl (Nat.le_of_ble_eq_true rfl) dX2_read_7 (fun H locs hP hD hS => ?_)
  rw [eSc_4] at hP hD
  refine lv_aload_n hC.x hC.b dX2_read_10 rfl (lv_at hl 0 rfl) ?_
  refine va_new (ci := 6) (fs := [.null, .null, .null, .null, .null, .null, .int 0, .int 0, .int 0, .int 0, .int 0, .int 0]) (C := RX7) (T := TX7) (N := 12) hC.x hC.b hC.ts in_X7 tyX7 tyX7_ok hC.ow (hC.ts _ q443) (hC.ts _ q444) (hC.ts _ q127) hC.K.1 hP hD hS hC.aA gCl_X7 (fun j hj => by rcases nle12 j hj with rfl | rfl | rfl | rfl | rfl | rfl | rfl | rfl | rfl | rfl | rfl | rfl <;> rfl) (Nat.le_of_ble_eq_true rfl) (Nat.le_of_ble_eq_true rfl) dX2_read_11 (fun a H hP hD hS => ?_)
  refine lv_dup hC.x hC.b dX2_read_14 rfl ?_
  refine go_v (run_IN (rest := [.ref a, .ref (ad 14)]) hC (n7_init l) (hC.K.use 3 rfl) ⟨q447, q127, q446⟩ ⟨by decide +kernel, by decide +kernel, by show _ = some 0; decide +kernel⟩ rfl ⟨rfl, rfl, Nat.le_of_ble_eq_true rfl, Nat.le_of_ble_eq_true rfl⟩ ⟨Nat.le_of_ble_eq_true rfl, Nat.le_of_ble_eq_true rfl⟩ hP hD hS hl.1 (Nat.le_of_ble_eq_true rfl) dX2_read_15 rfl) hS (fun u H locs _ hP hD hS => ?_)
  rw [nt_eq] at hP hD
  refine va_put (D := D) (ci := 1) (fs := obS ad (w0, t0, rf) (sI (sI S 14 3 x1) 14 4 0)) (v := .ref a) (ty := .object "SeanceStreet$Town") (C := RX2) (T := TX2) (N := 10) hC.x hC.b hC.ts in_X2 tyX2 tyX2_ok nmX2 hC.ow hC.K.1 hP hD hS 14 (by rw [List.getElem?_append_left (by rw [wC, List.length_append, fx_len]; omega)]; exact wC_f (by omega) rfl) gCl_X2 9 (by decide) (hC.ts _ q241) (fun _ h9 => h9) rfl (by decide +kernel) rfl rfl (Nat.le_of_ble_eq_true rfl) dX2_read_18 (fun H locs hP hD hS => ?_)
  obtain ⟨S0, eS0⟩ : ∃ z : XS, z = (sI (sI S 14 3 x1) 14 4 0, w0, zeroC, []) := ⟨_, rfl⟩
  have ew : (wC D ad (w0, t0, rf) tw (sI (sI S 14 3 x1) 14 4 0) ++ tbC D (some (tau0 u a)) zeroC).set 14 (ad 14, .inr (1, (obS ad (w0, t0, rf) (sI (sI S 14 3 x1) 14 4 0)).set 9 (.ref a))) = wX D ad rf tw [] (tau0 u a) S0 := by
    rw [List.set_append_left _ _ (by rw [wC, List.length_append, fx_len]; omega)]
    have e := eSc_9 (D := D) (ad := ad) (rf := rf) (tw := tw) (w0 := w0) (t0 := t0) (S := sI (sI S 14 3 x1) 14 4 0) (v := some a)
    have e : (wC D ad (w0, t0, rf) tw (sI (sI S 14 3 x1) 14 4 0)).set 14 (ad 14, .inr (1, (obS ad (w0, t0, rf) (sI (sI S 14 3 x1) 14 4 0)).set 9 (.ref a))) = wC D ad (w0, some a, rf) tw (sI (sI S 14 3 x1) 14 4 0) := e
    rw [e, eS0]
    show _ = wC D ad (w0, some a, rf) tw (sI (sI S 14 3 x1) 14 4 0) ++ (tbC D (some (tau0 u a)) zeroC ++ [])
    rw [List.append_nil]
  rw [ew] at hP hD
  have hw := hw u a S0 eS0
  refine lv_aload_n hC.x hC.b dX2_read_21 rfl (lv_at hl 0 rfl) ?_
  refine go_v (run_V (rest := []) hC (m2_step l hZ hw) vX2_2_step h2_step (([] : va_W).length + 14) 1 gCl_X2 (wX_c (xc_f (by omega) rfl)) rfl ⟨rfl, rfl, Nat.le_of_ble_eq_true rfl, Nat.le_of_ble_eq_true rfl⟩ ⟨Nat.le_of_ble_eq_true rfl, Nat.le_of_ble_eq_true rfl⟩ hP hD hS hl.1 (Nat.le_of_ble_eq_true rfl) dX2_read_22 rfl) hS (fun S1 H locs hw hP hD hS => ?_)
  refine lv_aload_n hC.x hC.b dX2_read_25 rfl (lv_at hl 0 rfl) ?_
  refine gx_v hC hout (run_VX (rest := []) hC (m2_line l hZ hw) vX2_2_line h2_line (([] : va_W).length + 14) 1 gCl_X2 (wX_c (xc_f (by omega) rfl)) rfl ⟨rfl, rfl, Nat.le_of_ble_eq_true rfl, Nat.le_of_ble_eq_true rfl⟩ ⟨Nat.le_of_ble_eq_true rfl, Nat.le_of_ble_eq_true rfl⟩ hP hD hS hl.1 (Nat.le_of_ble_eq_true rfl) dX2_read_26 rfl) (Nat.le_of_ble_eq_true rfl) (Nat.le_of_ble_eq_true rfl) hS (fun v H locs hw hP hD hS => ?_)
  obtain ⟨t2, S2⟩ := v
  exact k2_read_29 hC hZ hout 200 _ _ (t2, S2) (Nat.le_of_ble_eq_true rfl) (Nat.le_of_ble_eq_true rfl) hw H locs ls hP hD hS hl
def mg (S S2 : CS) : CS := ((fun a => if (50 ≤ a ∧ a < 60) ∨ 1000 ≤ a then S2.1.1 a else S.1.1 a, S.1.2), S.2)
def w1_town (post : Int32 → Option TD → Option Nat → Option Nat → CS → Prop) (tw : Option TD) (w0 t0 : Option Nat) (S : CS) (x1 : Int32) : Prop :=
  w1_anew (fun S1 => w1_in (fun r => (¬ r = 0 → ∀ S2, S2 = sI (sI S1 0 1 0) 0 5 0 → w2_read (fun tau X => w4_begin (fun S3 => ∀ S4, S4 = sI S3 0 8 0 → ∀ S5, S5 = sI S4 0 7 0 → post (S5.1.1 50 8) (some tau) X.2.1 (some (tau.1 0)) S5) (some tau) (mg X.1 X.2.2.1) 0) (fun u => ∀ S3, S3 = sI u.1 0 5 (u.1.1.1 15 6) → ∀ S4, S4 = sI S3 0 6 (S3.1.1 15 7) → w1_no (fun r S5 => post r tw u.2.1 u.2.2 S5) S4 4) w0 S2 x1) ∧ (r = 0 → w1_no (fun r S2 => post r tw w0 t0 S2) S1 2)) x1 0 (S1.1.1 0 1)) S
section TOWN
variable {rest : List Value} {R : Room} {H : Heap} {locs : List Loc} {cells slots : Nat} {Q : State → Prop} {ls : Array Slot} {pc : Nat} {nL : Nat} {cc : ByteArray} {ret0 : Option FieldType} {tau : TD} {X : XS}
/-- the component is given the town that was read -/
theorem nt_at : ∀ k q, (wC D ad (X.2.1, some (tau.1 0), rf) (some tau) (mg X.1 X.2.2.1))[k]? = some q → ((wX D ad rf tw [] tau X).set 0 (ad 0, .inr (0, (obO ad tw X.1).set 3 (.ref (tau.1 0)))))[if k < 105 then k else k + (tbC D tw X.1).length]? = some q := by
  intro k q h
  have ef : fxC D ad (X.2.1, some (tau.1 0), rf) (some tau) (mg X.1 X.2.2.1) = (fxC D ad (X.2.1, some (tau.1 0), rf) tw X.1).set 0 (ad 0, .inr (0, (obO ad tw X.1).set 3 (.ref (tau.1 0)))) := by
    have e := fx_congr (D := D) (ad := ad) (sc := (X.2.1, some (tau.1 0), rf)) (tw := some tau) (S := X.1) (S' := mg X.1 X.2.2.1) (fun a ha => if_neg (by omega)) rfl rfl
    rw [e]
    rfl
  have es : stC D ad (mg X.1 X.2.2.1) = stC D ad X.1 := st_congr (fun a h1 h2 => if_neg (by omega)) rfl
  have et : tbC D (some tau) (mg X.1 X.2.2.1) = tbC D (some tau) X.2.2.1 := tb_congr (fun a ha => if_pos (by omega))
  have el : (wX D ad rf tw [] tau X).set 0 (ad 0, .inr (0, (obO ad tw X.1).set 3 (.ref (tau.1 0)))) = ((fxC D ad (X.2.1, some (tau.1 0), rf) tw X.1).set 0 (ad 0, .inr (0, (obO ad tw X.1).set 3 (.ref (tau.1 0)))) ++ stC D ad X.1) ++ (tbC D tw X.1 ++ (tbC D (some tau) X.2.2.1 ++ plC D X.2.2.2)) := by
    show ([] ++ ((fxC D ad (X.2.1, some (tau.1 0), rf) tw X.1 ++ (stC D ad X.1 ++ tbC D tw X.1)) ++ (tbC D (some tau) X.2.2.1 ++ plC D X.2.2.2))).set 0 _ = _
    rw [List.nil_append, List.set_append_left _ _ (by rw [List.length_append, fx_len]; omega), List.set_append_left _ _ (by rw [fx_len]; omega)]
    simp only [List.append_assoc]
  have eh : wC D ad (X.2.1, some (tau.1 0), rf) (some tau) (mg X.1 X.2.2.1) = ((fxC D ad (X.2.1, some (tau.1 0), rf) tw X.1).set 0 (ad 0, .inr (0, (obO ad tw X.1).set 3 (.ref (tau.1 0)))) ++ stC D ad X.1) ++ tbC D (some tau) X.2.2.1 := by
    unfold wC
    rw [ef, es, et, List.append_assoc]
  rw [eh] at h
  rw [el]
  have ln : ((fxC D ad (X.2.1, some (tau.1 0), rf) tw X.1).set 0 (ad 0, .inr (0, (obO ad tw X.1).set 3 (.ref (tau.1 0)))) ++ stC D ad X.1).length = 105 := by
    rw [List.length_append, List.length_set, fx_len, st_len]
  by_cases h1 : k < 105
  · rw [if_pos h1]
    rw [List.getElem?_append_left (by rw [ln]; exact h1)] at h ⊢
    exact h
  · rw [if_neg h1]
    rw [List.getElem?_append_right (by rw [ln]; omega), ln] at h
    rw [List.getElem?_append_right (by rw [ln]; omega), ln, List.getElem?_append_right (by omega), show k + (tbC D tw X.1).length - 105 - (tbC D tw X.1).length = k - 105 by omega, List.getElem?_append_left (List.getElem?_eq_some_iff.mp h).1]
    exact h
theorem nt_P (hP : va_P D gCl ((wX D ad rf tw [] tau X).set 0 (ad 0, .inr (0, (obO ad tw X.1).set 3 (.ref (tau.1 0))))) H) : va_P D gCl (wC D ad (X.2.1, some (tau.1 0), rf) (some tau) (mg X.1 X.2.2.1)) H := idx_P _ nt_at hP
theorem nt_D (hD : va_D A ((wX D ad rf tw [] tau X).set 0 (ad 0, .inr (0, (obO ad tw X.1).set 3 (.ref (tau.1 0)))))) : va_D A (wC D ad (X.2.1, some (tau.1 0), rf) (some tau) (mg X.1 X.2.2.1)) := by
  refine idx_D _ nt_at (fun i j hi hj e => ?_) hD
  by_cases h1 : i < 105 <;> by_cases h2 : j < 105 <;> simp only [h1, h2, if_true, if_false] at e <;> omega
theorem Met.ofGW {l : Launch} {y : MethodName} {cl : List vw_C} {nw : List Cond} {ret : Option FieldType} {hh : List (Nat × Nat × Nat × Nat)} {rm : Room} {av : List Value} {w : va_W} {Qc : Array Value → State → Outcome → State → Prop} {mc ms : Nat} (hy : plainName y.cls = true) (hn : (lg_sl av).length ≤ nL)
    (body : ∀ (p : Program) (e : Env) (s : State) (m : MethodId) (below : List Frame) (meth : Method) (c : Code) (ls : Array Slot), CX y.cls cc nL ret D cl nw Z Hb A p s m av.toArray meth c → c.exceptionTable.toList = tableOf hh → va_P D cl w s.heap → va_D A w → va_S A s.heap s.heap [] → lv_has ls nL (lv_args 0 av) →
      W p l e rm s m av.toArray below meth c s.heap [] 0 0 (MQ below Qc av.toArray s mc ms A) (F0 m 0 ls [])) : Met l y (wsW_ y cc nL ret hh) rm (va_Pc av (PcG D cl nw Z Hb A w)) Qc mc ms A := by
  refine va_MetW (cc := cc) (maxL := nL) (ret := ret) (hh := hh) hy rfl ?_
  intro p e s m args below meth c s₁ B hml hv
  obtain ⟨rfl, hP, hD, hK, hA⟩ := hv
  have hts := atoms_spec (ws := wsW_ y cc nL ret hh) B.pre
  have hl := lv_entry av (n := nL) hn
  rw [lg_entry_eq]
  exact body p e s m below meth c _ ⟨B.exec, B.bytes, hml, findClass_of_methodNamed B.named, fun w h => hts w (List.mem_cons_of_mem _ h), hK, B.returns, B.notSynchronized, hA⟩ (vx_table (x := y) B (hts _ List.mem_cons_self)) hP hD va_S.rf hl
end TOWN
theorem vX1_X2_read : GoodIn lw_all (wsV RX1 94 RX2 yX2_read (ws_ yX2_read cX2_read 2 (some (.object "SeanceStreet$Town")))) := lw_V q439 q440 q441 q119 q442
theorem hX1_town : yX1_town.cls = RX1 ∧ yX1_town.cls ≠ "java/lang/invoke/MethodHandle" ∧ yX1_town.cls ≠ "java/lang/invoke/VarHandle" ∧ (parseMethodDescriptor yX1_town.desc).map (fun d => d.parameters.length) = some 1 := by decide +kernel
abbrev TW : Type := Option TD × Option Nat × Option Nat × CS
def wT (D : va_G) (ad : Nat → Nat) (rf : Nat → Value) (u : TW) : va_W := wC D ad (u.2.1, u.2.2.1, rf) u.1 u.2.2.2
set_option maxHeartbeats 8000000 in
theorem m1_town (l : Launch) {post : Int32 → Option TD → Option Nat → Option Nat → CS → Prop} {w0 t0 : Option Nat} {S : CS} {x1 : Int32} {adK adV : Nat → Nat} (hZ : ∀ U, Z U → zS adK adV A Hb U) (hw : w1_town post tw w0 t0 S x1) : Met l yX1_town (wsW_ yX1_town cX1_town 3 (some .int) [((32 : Nat), (44 : Nat), (47 : Nat), (102 : Nat))]) ({ frames := 11, cells := 4630, slots := 27790, locals := 354 } : Room) (va_Pc [.ref (ad 0), .int x1] (PcG D gCl nwG Z Hb A (wC D ad (w0, t0, rf) tw S))) (va_Qi (fun r (u : TW) => post r u.1 u.2.1 u.2.2.1 u.2.2.2) (BW D gCl A (wT D ad rf)) A) 4630 27790 A := by
  refine Met.ofGW (by decide) (Nat.le_of_ble_eq_true rfl) ?_
  intro p e s m below meth c ls hC htab hP hD hS hl
  have hC : CX RX1 cX1_town 3 (some .int) D gCl nwG Z Hb A p s m _ meth c := hC
  have hl : lv_has ls 3 [(0, .ref (ad 0)), (1, .int x1)] := hl
  unfold w1_town at hw
  have kno : ∀ (tw9 : Option TD) (w9 t9 : Option Nat) (S9 : CS) (k pc : Nat) (code : Int32) (H : Heap) (locs : List Loc) (ls : Array Slot) (cells slots : Nat), cells ≤ 4630 → slots ≤ 27790 → decode cX1_town pc = .ok (.invokevirtual 87, 3) → decode cX1_town (pc + 3) = .ok (.ireturn, 1) → w1_no (fun r S2 => post r tw9 w9 t9 S2) S9 code → va_P D gCl (wC D ad (w9, t9, rf) tw9 S9) H → va_D A (wC D ad (w9, t9, rf) tw9 S9) → va_S A s.heap H locs → ls.size = 3 → W p l e ({ frames := 11, cells := 4630, slots := 27790, locals := 354 } : Room) s m [Value.ref (ad 0), Value.int x1].toArray below meth c H locs cells slots (MQ below (va_Qi (fun r (u : TW) => post r u.1 u.2.1 u.2.2.1 u.2.2.2) (BW D gCl A (wT D ad rf)) A) [Value.ref (ad 0), Value.int x1].toArray s 4630 27790 A) (F0 m pc ls [.int code, .ref (ad 0)]) := by
    intro tw9 w9 t9 S9 k pc code H locs ls cells slots hc hs d1 d2 hw hP hD hS hl
    refine go_i (run_V (rest := []) hC (m1_no l hw) v1_1_no h1_no 0 0 gCl_X1 rfl rfl ⟨rfl, rfl, Nat.le_of_ble_eq_true rfl, Nat.le_of_ble_eq_true rfl⟩ ⟨hc, hs⟩ hP hD hS hl (Nat.le_of_ble_eq_true rfl) d1 rfl) hS (fun r S8 H locs hw hP hD hS => ?_)
    refine W.widen (k := 4630) (n := 27790) hc hs ?_
    exact rt_i (u := ((tw9, w9, t9, S8) : TW)) (post := fun r (u : TW) => post r u.1 u.2.1 u.2.2.1 u.2.2.2) (wf := wT D ad rf) hC hw hP hD hS d2
  refine lv_aload_n hC.x hC.b dX1_town_0 rfl (lv_at hl 0 rfl) ?_
  refine go_v (run_V (rest := []) hC (m1_anew l hw) v1_1_anew h1_anew 0 0 gCl_X1 rfl rfl ⟨rfl, rfl, Nat.le_of_ble_eq_true rfl, Nat.le_of_ble_eq_true rfl⟩ ⟨Nat.le_of_ble_eq_true rfl, Nat.le_of_ble_eq_true rfl⟩ hP hD hS hl.1 (Nat.le_of_ble_eq_true rfl) dX1_town_1 rfl) hS (fun S1 H locs hw hP hD hS => ?_)
  refine lv_iload_n hC.x hC.b dX1_town_4 rfl (lv_at hl 1 rfl) ?_
  refine lv_iconst (v := 0) hC.x hC.b dX1_town_5 (by decide) ?_
  refine lv_aload_n hC.x hC.b dX1_town_6 rfl (lv_at hl 0 rfl) ?_
  refine gO_1 hC hP dX1_town_7 ?_
  refine go_i (run_S (rest := []) hC (m1_in l hw) v1_1_in h1_in ⟨rfl, rfl, Nat.le_of_ble_eq_true rfl, Nat.le_of_ble_eq_true rfl⟩ ⟨Nat.le_of_ble_eq_true rfl, Nat.le_of_ble_eq_true rfl⟩ hP hD hS hl.1 (Nat.le_of_ble_eq_true rfl) dX1_town_10 rfl) hS (fun r u H locs hw hP hD hS => ?_)
  refine lv_if_ne (tgt := 22) hC.x hC.b dX1_town_13 (by decide) (fun c0 => ?_) (fun c0 => ?_)
  rotate_left
  · refine lv_aload_n hC.x hC.b dX1_town_16 rfl (lv_at hl 0 rfl) ?_
    refine lv_iconst (v := 2) hC.x hC.b dX1_town_17 (by decide) ?_
    exact kno _ _ _ _ 0 18 2 _ _ _ _ _ (Nat.le_of_ble_eq_true rfl) (Nat.le_of_ble_eq_true rfl) dX1_town_18 dX1_town_21 (hw.2 c0) hP hD hS hl.1
  have hw := hw.1 c0
  refine lv_aload_n hC.x hC.b dX1_town_22 rfl (lv_at hl 0 rfl) ?_
  refine lv_iconst (v := 0) hC.x hC.b dX1_town_23 (by decide) ?_
  refine pO_1 hC hP hD hS (v := 0) dX1_town_24 (fun S2 eS2 H locs hP hD hS => ?_)
  refine lv_aload_n hC.x hC.b dX1_town_27 rfl (lv_at hl 0 rfl) ?_
  refine lv_iconst (v := 0) hC.x hC.b dX1_town_28 (by decide) ?_
  refine pO_5 hC hP hD hS (v := 0) dX1_town_29 (fun S3 eS3 H locs hP hD hS => ?_)
  have hw := hw S3 (by rw [eS3, eS2])
  refine lv_aload_n hC.x hC.b dX1_town_32 rfl (lv_at hl 0 rfl) ?_
  refine lv_aload_n hC.x hC.b dX1_town_33 rfl (lv_at hl 0 rfl) ?_
  refine gO_2 hC hP dX1_town_34 ?_
  refine lv_iload_n hC.x hC.b dX1_town_37 rfl (lv_at hl 1 rfl) ?_
  refine tx_callr (S := TD × XS) (SX := CS × Option Nat × Option Nat) (B := fun (u : TD × XS) x t => (x = u.1.1 0 ∧ w4_begin (fun S3 => ∀ S4, S4 = sI S3 0 8 0 → ∀ S5, S5 = sI S4 0 7 0 → post (S5.1.1 50 8) (some u.1) u.2.2.1 (some (u.1.1 0)) S5) (some u.1) (mg u.2.1 u.2.2.2.1) 0) ∧ BW D gCl A (fun u => wX D ad rf tw [] u.1 u.2) u t) (BX := XB D ad rf tw A) (post := fun _ => True) (run_VX (rest := [.ref (ad 0)]) (As := [.int x1]) hC (m2_read l hZ hw) vX1_X2_read hX2_read 14 1 gCl_X2 (wC_f (by omega) rfl) rfl ⟨rfl, rfl, Nat.le_of_ble_eq_true rfl, Nat.le_of_ble_eq_true rfl⟩ ⟨Nat.le_of_ble_eq_true rfl, Nat.le_of_ble_eq_true rfl⟩ hP hD hS hl.1 (Nat.le_of_ble_eq_true rfl) dX1_town_38 rfl) hS (fun _ _ h => h) (fun _ h => h) (fun _ _ h => h) ?_ ?_
  · intro E ce q9 u t H locs ht _ hpx hB _ _ hS hce hv hcl
    obtain ⟨rfl, rfl, hPB, hDB⟩ := hB
    rw [ht] at hPB
    obtain ⟨S0, w9, t9⟩ := u
    have hP : va_P D gCl (wC D ad (w9, t9, rf) tw S0) H := hPB
    have hD : va_D A (wC D ad (w9, t9, rf) tw S0) := hDB
    refine vx_catch (own := RX1) (name := "SeanceStreet$Refused") hC.ow [] ⟨32, 44, 47, 102⟩ [] (by rw [htab]; rfl) (fun z hz => by cases hz) (by decide) (by decide) (hC.ts _ q427) (va_Nw.use rfl (hZ s hC.K.2.2.2).2.2.2.2.2.2.2.2.2.2.2.2.2.1) hce hv hcl ?_
    refine lv_astore_n (lv' := [(2, .ref (ad 15)), (0, .ref (ad 0)), (1, .int x1)]) hC.x hC.b dX1_town_47 rfl hl (by decide) rfl (fun ls hl => ?_)
    refine lv_aload_n hC.x hC.b dX1_town_48 rfl (lv_at hl 1 rfl) ?_
    refine lv_aload_n hC.x hC.b dX1_town_49 rfl (lv_at hl 0 rfl) ?_
    refine va_get (D := D) (ci := 2) (fs := obR (w9, t9, rf) S0) (v := .int (S0.1.1 15 6)) (C := RX3) (T := TX3) (N := 8) hC.x hC.b hC.ts in_X3 hC.ow hC.K.1 hP 15 (wC_f (by omega) rfl) gCl_X3 6 (by decide) (hC.ts _ q211) (fun _ h9 => h9) rfl dX1_town_50 ?_
    refine pO_5 hC hP hD hS (v := S0.1.1 15 6) dX1_town_53 (fun S4 eS4 H locs hP hD hS => ?_)
    refine lv_aload_n hC.x hC.b dX1_town_56 rfl (lv_at hl 1 rfl) ?_
    refine lv_aload_n hC.x hC.b dX1_town_57 rfl (lv_at hl 0 rfl) ?_
    refine va_get (D := D) (ci := 2) (fs := obR (w9, t9, rf) S4) (v := .int (S4.1.1 15 7)) (C := RX3) (T := TX3) (N := 8) hC.x hC.b hC.ts in_X3 hC.ow hC.K.1 hP 15 (wC_f (by omega) rfl) gCl_X3 7 (by decide) (hC.ts _ q213) (fun _ h9 => h9) rfl dX1_town_58 ?_
    refine pO_6 hC hP hD hS (v := S4.1.1 15 7) dX1_town_61 (fun S5 eS5 H locs hP hD hS => ?_)
    refine lv_aload_n hC.x hC.b dX1_town_64 rfl (lv_at hl 1 rfl) ?_
    refine lv_iconst (v := 4) hC.x hC.b dX1_town_65 (by decide) ?_
    exact kno _ _ _ _ 0 66 4 _ _ _ _ _ (Nat.le_of_ble_eq_true rfl) (Nat.le_of_ble_eq_true rfl) dX1_town_66 dX1_town_69 (hpx S4 eS4 S5 eS5) hP hD hS hl.1
  · intro u ra t H locs ht _ _ hB _ _ hS
    obtain ⟨tau, X⟩ := u
    obtain ⟨⟨rfl, hw⟩, hPB, hDB⟩ := hB
    have hP : va_P D gCl (wX D ad rf tw [] tau X) H := by rw [← ht]; exact hPB
    have hD : va_D A (wX D ad rf tw [] tau X) := hDB
    have hw : w4_begin (fun S3 => ∀ S4, S4 = sI S3 0 8 0 → ∀ S5, S5 = sI S4 0 7 0 → post (S5.1.1 50 8) (some tau) X.2.1 (some (tau.1 0)) S5) (some tau) (mg X.1 X.2.2.1) 0 := hw
    refine va_put (D := D) (ci := 0) (fs := obO ad tw X.1) (v := .ref (tau.1 0)) (ty := .object "SeanceStreet$Town") (C := RX1) (T := TX1) (N := 30) hC.x hC.b hC.ts in_X1 tyX1 tyX1_ok nmX1 hC.ow hC.K.1 hP hD hS 0 (wX_c (F := []) (j := 0) (xc_f (by omega) rfl)) gCl_X1 3 (by decide) (hC.ts _ q327) (fun _ h9 => h9) rfl (by decide +kernel) rfl rfl (Nat.le_of_ble_eq_true rfl) dX1_town_41 (fun H locs hP hD hS => ?_)
    have hP := nt_P hP
    have hD := nt_D hD
    refine lv_goto (tgt := 70) hC.x hC.b dX1_town_44 (by decide) ?_
    refine lv_aload_n hC.x hC.b dX1_town_70 rfl (lv_at hl 0 rfl) ?_
    refine gO_9 hC hP dX1_town_71 ?_
    refine lv_aload_n hC.x hC.b dX1_town_74 rfl (lv_at hl 0 rfl) ?_
    refine gO_3 hC hP dX1_town_75 ?_
    refine go_r (run_V (rest := []) hC (m4_begin l (by decide) hw) v1_4_begin h4_begin (17 + 4 * 0) 3 gCl_X4 (wC_so (by decide)) rfl ⟨rfl, rfl, Nat.le_of_ble_eq_true rfl, Nat.le_of_ble_eq_true rfl⟩ ⟨Nat.le_of_ble_eq_true rfl, Nat.le_of_ble_eq_true rfl⟩ hP hD hS hl.1 (Nat.le_of_ble_eq_true rfl) dX1_town_78 rfl) hS (fun S3 H locs hw hP hD hS => ?_)
    refine lv_pop hC.x hC.b dX1_town_81 rfl ?_
    refine lv_aload_n hC.x hC.b dX1_town_82 rfl (lv_at hl 0 rfl) ?_
    refine lv_iconst (v := 0) hC.x hC.b dX1_town_83 (by decide) ?_
    refine pO_8 hC hP hD hS (v := 0) dX1_town_84 (fun S4 eS4 H locs hP hD hS => ?_)
    refine lv_aload_n hC.x hC.b dX1_town_87 rfl (lv_at hl 0 rfl) ?_
    refine lv_iconst (v := 0) hC.x hC.b dX1_town_88 (by decide) ?_
    refine pO_7 hC hP hD hS (v := 0) dX1_town_89 (fun S5 eS5 H locs hP hD hS => ?_)
    have hw := hw S4 eS4 S5 eS5
    refine lv_aload_n hC.x hC.b dX1_town_92 rfl (lv_at hl 0 rfl) ?_
    refine gO_3 hC hP dX1_town_93 ?_
    refine gX1T_8 hC hP dX1_town_96 ?_
    refine W.widen (k := 4630) (n := 27790) (Nat.le_of_ble_eq_true rfl) (Nat.le_of_ble_eq_true rfl) ?_
    exact rt_i (u := ((some tau, X.2.1, some (tau.1 0), S5) : TW)) (post := fun r (u : TW) => post r u.1 u.2.1 u.2.2.1 u.2.2.2) (wf := wT D ad rf) hC hw hP hD hS dX1_town_99
end XWb
