set_option maxRecDepth 100000
/-! THE LAW'S CASES -/
def bz (x : Int32) : Int32 := if x = 0 then 0 else 1
/-- both sides answer the same, and stand together again -/
def ObI (Inv : Option TD → CS → Option (Nat → Nat) → MS → Prop) (w1 : (Int32 → CS → Prop) → Option TD → CS → Prop) (w6 : (Int32 → MS → Prop) → Option (Nat → Nat) → MS → Prop) : Prop :=
  ∀ tw S tw' S', Inv tw S tw' S' → ∃ (r : Int32) (C2 : CS → Prop) (M2 : MS → Prop), w1 (fun p u => p = r ∧ C2 u) tw S ∧ w6 (fun p u => p = r ∧ M2 u) tw' S' ∧ ∀ u u', C2 u → M2 u' → Inv tw u tw' u'
def ObL (Inv : Option TD → CS → Option (Nat → Nat) → MS → Prop) (w1 : (Int64 → CS → Prop) → Option TD → CS → Prop) (w6 : (Int64 → MS → Prop) → Option (Nat → Nat) → MS → Prop) : Prop :=
  ∀ tw S tw' S', Inv tw S tw' S' → ∃ (r : Int64) (C2 : CS → Prop) (M2 : MS → Prop), w1 (fun p u => p = r ∧ C2 u) tw S ∧ w6 (fun p u => p = r ∧ M2 u) tw' S' ∧ ∀ u u', C2 u → M2 u' → Inv tw u tw' u'
/-- a town is read -/
def ObT (Inv : Option TD → CS → Option (Nat → Nat) → MS → Prop) (a : Int32) : Prop :=
  ∀ tw S tw' S', Inv tw S tw' S' → ∃ (r : Int32) (C2 : Option TD → CS → Prop) (M2 : Option (Nat → Nat) → MS → Prop), (∀ w0 t0, w1_town (fun p t _ _ u => p = r ∧ C2 t u) tw w0 t0 S a) ∧ w6_town (fun p t u => p = r ∧ M2 t u) tw' S' a ∧ ∀ t u t' u', C2 t u → M2 t' u' → Inv t u t' u'
/-- what is told by number, or nothing: 0 and the answer, or 1 -/
def ObE (Inv : Option TD → CS → Option (Nat → Nat) → MS → Prop) (a : Int32) : Prop :=
  ∀ tw S tw' S', Inv tw S tw' S' → ∀ ov : Nat → Int64, ∃ (k b : Int32), w0_led (fun p v => p = k ∧ (k = 0 → v 0 = b.toInt64)) tw S a ov ∧ w6_led (fun p u => p = b ∧ w6_thrown (fun q => q = k ∧ Inv tw S tw' u) u) tw' S' a
section LAWC
variable {p : Program} {l : Launch} {e : Env} {s : State} {m : MethodId} {args : Array Value} {below : List Frame} {meth : Method} {c : Code} {H : Heap} {locs : List Loc} {cells slots : Nat} {Q : State → Prop} {D : va_G} {Z : State → Prop} {Hb : Heap} {A : Nat → Prop} {ls : Array Slot} {rest : List Value}
theorem w3_P {a b c : va_W} (h : va_P D gCl (a ++ (b ++ c)) H) : va_P D gCl (b ++ (c ++ a)) H := by
  have h := wsw_P (X := []) (Y := a) (Z := b ++ c) h
  rw [List.nil_append, List.append_assoc] at h
  exact h
theorem w3_D {a b c : va_W} (h : va_D A (a ++ (b ++ c))) : va_D A (b ++ (c ++ a)) := by
  have h := wsw_D (X := []) (Y := a) (Z := b ++ c) h
  rw [List.nil_append, List.append_assoc] at h
  exact h
theorem lg_cmp_self (x : Int64) : lg_cmp x x = 0 := by
  unfold lg_cmp
  simp
theorem lv_bz {R : Room} {cc : ByteArray} {pc p1 p2 : Nat} {o1 o2 : Int} {x : Int32} (hexec : p.tables.exec = Jvm.exec) (hb : c.code = cc) (d1 : decode cc pc = .ok (.ifCond .eq o1, 3)) (h1 : (pc : Int) + o1 = (p1 : Int)) (d2 : decode cc (pc + 3) = .ok (.iconst 1, 1)) (d3 : decode cc (pc + 4) = .ok (.goto o2, 3)) (h2 : ((pc + 4 : Nat) : Int) + o2 = (p2 : Int)) (d4 : decode cc p1 = .ok (.iconst 0, 1)) (h3 : p1 + 1 = p2)
    (kk : W p l e R s m args below meth c H locs cells slots Q (F0 m p2 ls (.int (bz x) :: rest))) : W p l e R s m args below meth c H locs cells slots Q (F0 m pc ls (.int x :: rest)) := by
  refine lv_if_eq (tgt := p1) hexec hb d1 h1 (fun c => ?_) (fun c => ?_)
  · refine lv_iconst (v := 0) hexec hb d4 (by decide) ?_
    rw [show bz x = 0 from if_pos c] at kk
    rw [h3]
    exact kk
  · refine lv_iconst (v := 1) hexec hb d2 (by decide) ?_
    refine lv_goto (tgt := p2) hexec hb d3 h2 ?_
    rw [show bz x = 1 from if_neg c] at kk
    exact kk
variable {b L : Nat} {xs : Nat → Int32} {x4 : Int32} {ad am : Nat → Nat} {ao : Nat} {rf : Nat → Value} {x5 x6 : Slot}
/-- the law's world -/
abbrev wL (D : va_G) (ad am : Nat → Nat) (ao : Nat) (rf : Nat → Value) (w0 t0 : Option Nat) (tw : Option TD) (S : CS) (rdv : Option Nat) (tw' : Option (Nat → Nat)) (S' : MS) (ov : Nat → Int64) : va_W := wC D ad (w0, t0, rf) tw S ++ (wM D am none rdv tw' S' ++ oW D ao ov)
abbrev lL (b : Nat) (ad am : Nat → Nat) (ao : Nat) (x4 : Int32) : List (Nat × Value) := [(4, .int x4), (3, .ref ao), (2, .ref (am 0)), (1, .ref (ad 0)), (0, .ref b)]
theorem vL_1_feed : GoodIn lw_all (wsV RX0 19 RX1 yX1_feed (ws_ yX1_feed cX1_feed 6 (some .int))) := lw_V q415 q416 q417 q118 q418
theorem vL_6_feed : GoodIn lw_all (wsV RX0 23 RX6 yX6_feed (ws_ yX6_feed cX6_feed 8 (some .int))) := lw_V q1501 q1502 q1503 q126 q1504
abbrev Ob_feed (Inv : Option TD → CS → Option (Nat → Nat) → MS → Prop) (a0 a1 a2 a3 a4 : Int32) : Prop := ObI Inv (fun post tw S => w1_feed post S a0 a1 a2 a3 a4) (fun post tw S => w6_feed post S a0 a1 a2 a3 a4)
set_option maxHeartbeats 4000000 in
theorem lc_0 {Inv : Option TD → CS → Option (Nat → Nat) → MS → Prop} {w0 t0 : Option Nat} {tw : Option TD} {S : CS} {rdv : Option Nat} {tw' : Option (Nat → Nat)} {S' : MS} {ov : Nat → Int64} (hC : CX RX0 cL_law 7 (some .boolean) D gCl nwG Z Hb A p s m args meth c) (hX : va_X b L xs s s.heap) (hbl : b < s.heap.size) (hbA : ¬ A b) (h1 : vp_in (x4 + 1) L) (h2 : vp_in (x4 + 2) L) (h3 : vp_in (x4 + 3) L) (h4 : vp_in (x4 + 4) L) (h5 : vp_in (x4 + 5) L) (hcl : cells + 4644 ≤ 1200128) (hsl : slots + 27909 ≤ 5501098)
    (hO : Ob_feed Inv (xs (x4 + 1).toNatClampNeg) (xs (x4 + 2).toNatClampNeg) (xs (x4 + 3).toNatClampNeg) (xs (x4 + 4).toNatClampNeg) (xs (x4 + 5).toNatClampNeg)) (hI : Inv tw S tw' S') (hP : va_P D gCl (wL D ad am ao rf w0 t0 tw S rdv tw' S' ov) H) (hD : va_D A (wL D ad am ao rf w0 t0 tw S rdv tw' S' ov)) (hS : va_S A s.heap H locs) (hl : lv_has ls 7 (lL b ad am ao x4))
    (next : ∀ (w0 t0 : Option Nat) (tw : Option TD) (S : CS) (rdv : Option Nat) (tw' : Option (Nat → Nat)) (S' : MS) (ov : Nat → Int64) (H : Heap) (locs : List Loc) (ls : Array Slot), Inv tw S tw' S' → va_P D gCl (wL D ad am ao rf w0 t0 tw S rdv tw' S' ov) H → va_D A (wL D ad am ao rf w0 t0 tw S rdv tw' S' ov) → va_S A s.heap H locs → lv_has ls 7 (lL b ad am ao x4) → W p l e room_1 s m args below meth c H locs (cells + 4644) (slots + 27909) Q (F0 m 2315 ls [])) :
    W p l e room_1 s m args below meth c H locs cells slots Q (F0 m 300 ls []) := by
  obtain ⟨r, C2, M2, g1, g2, g3⟩ := hO tw S tw' S' hI
  refine lv_aload_n hC.x hC.b dL_law_300 rfl (lv_at hl 3 rfl) ?_
  refine lv_aload_n hC.x hC.b dL_law_301 rfl (lv_at hl 4 rfl) ?_
  refine lv_iload hC.x hC.b dL_law_302 (lv_at hl 0 rfl) ?_
  refine lv_iconst (v := 1) hC.x hC.b dL_law_304 (by decide) ?_
  refine lv_iadd hC.x hC.b dL_law_305 ?_
  refine va_sld hC.x hC.b hX hbl hbA hS h1 dL_law_306 ?_
  refine lv_aload_n hC.x hC.b dL_law_307 rfl (lv_at hl 4 rfl) ?_
  refine lv_iload hC.x hC.b dL_law_308 (lv_at hl 0 rfl) ?_
  refine lv_iconst (v := 2) hC.x hC.b dL_law_310 (by decide) ?_
  refine lv_iadd hC.x hC.b dL_law_311 ?_
  refine va_sld hC.x hC.b hX hbl hbA hS h2 dL_law_312 ?_
  refine lv_aload_n hC.x hC.b dL_law_313 rfl (lv_at hl 4 rfl) ?_
  refine lv_iload hC.x hC.b dL_law_314 (lv_at hl 0 rfl) ?_
  refine lv_iconst (v := 3) hC.x hC.b dL_law_316 (by decide) ?_
  refine lv_iadd hC.x hC.b dL_law_317 ?_
  refine va_sld hC.x hC.b hX hbl hbA hS h3 dL_law_318 ?_
  refine lv_aload_n hC.x hC.b dL_law_319 rfl (lv_at hl 4 rfl) ?_
  refine lv_iload hC.x hC.b dL_law_320 (lv_at hl 0 rfl) ?_
  refine lv_iconst (v := 4) hC.x hC.b dL_law_322 (by decide) ?_
  refine lv_iadd hC.x hC.b dL_law_323 ?_
  refine va_sld hC.x hC.b hX hbl hbA hS h4 dL_law_324 ?_
  refine lv_aload_n hC.x hC.b dL_law_325 rfl (lv_at hl 4 rfl) ?_
  refine lv_iload hC.x hC.b dL_law_326 (lv_at hl 0 rfl) ?_
  refine lv_iconst (v := 5) hC.x hC.b dL_law_328 (by decide) ?_
  refine lv_iadd hC.x hC.b dL_law_329 ?_
  refine va_sld hC.x hC.b hX hbl hbA hS h5 dL_law_330 ?_
  refine fg_i hC (fr_V (rest := []) (As := [.int (xs (x4 + 1).toNatClampNeg), .int (xs (x4 + 2).toNatClampNeg), .int (xs (x4 + 3).toNatClampNeg), .int (xs (x4 + 4).toNatClampNeg), .int (xs (x4 + 5).toNatClampNeg)]) hC (m1_feed l g1) vL_1_feed h1_feed 0 0 gCl_X1 rfl rfl ⟨rfl, rfl, Nat.le_of_ble_eq_true rfl, Nat.le_of_ble_eq_true rfl⟩ ⟨by show _ ≤ 1200128; omega, by show _ ≤ 5501098; omega⟩ hP hD hl.1 (Nat.le_of_ble_eq_true rfl) dL_law_331 rfl) hP hD hS (fun r1 u1 H locs f1 hP hD hS => ?_)
  have hP := w3_P hP
  have hD := w3_D hD
  refine lv_aload_n hC.x hC.b dL_law_334 rfl (lv_at hl 2 rfl) ?_
  refine lv_aload_n hC.x hC.b dL_law_335 rfl (lv_at hl 4 rfl) ?_
  refine lv_iload hC.x hC.b dL_law_336 (lv_at hl 0 rfl) ?_
  refine lv_iconst (v := 1) hC.x hC.b dL_law_338 (by decide) ?_
  refine lv_iadd hC.x hC.b dL_law_339 ?_
  refine va_sld hC.x hC.b hX hbl hbA hS h1 dL_law_340 ?_
  refine lv_aload_n hC.x hC.b dL_law_341 rfl (lv_at hl 4 rfl) ?_
  refine lv_iload hC.x hC.b dL_law_342 (lv_at hl 0 rfl) ?_
  refine lv_iconst (v := 2) hC.x hC.b dL_law_344 (by decide) ?_
  refine lv_iadd hC.x hC.b dL_law_345 ?_
  refine va_sld hC.x hC.b hX hbl hbA hS h2 dL_law_346 ?_
  refine lv_aload_n hC.x hC.b dL_law_347 rfl (lv_at hl 4 rfl) ?_
  refine lv_iload hC.x hC.b dL_law_348 (lv_at hl 0 rfl) ?_
  refine lv_iconst (v := 3) hC.x hC.b dL_law_350 (by decide) ?_
  refine lv_iadd hC.x hC.b dL_law_351 ?_
  refine va_sld hC.x hC.b hX hbl hbA hS h3 dL_law_352 ?_
  refine lv_aload_n hC.x hC.b dL_law_353 rfl (lv_at hl 4 rfl) ?_
  refine lv_iload hC.x hC.b dL_law_354 (lv_at hl 0 rfl) ?_
  refine lv_iconst (v := 4) hC.x hC.b dL_law_356 (by decide) ?_
  refine lv_iadd hC.x hC.b dL_law_357 ?_
  refine va_sld hC.x hC.b hX hbl hbA hS h4 dL_law_358 ?_
  refine lv_aload_n hC.x hC.b dL_law_359 rfl (lv_at hl 4 rfl) ?_
  refine lv_iload hC.x hC.b dL_law_360 (lv_at hl 0 rfl) ?_
  refine lv_iconst (v := 5) hC.x hC.b dL_law_362 (by decide) ?_
  refine lv_iadd hC.x hC.b dL_law_363 ?_
  refine va_sld hC.x hC.b hX hbl hbA hS h5 dL_law_364 ?_
  refine fg_i hC (fr_V (rest := [.int r1]) (As := [.int (xs (x4 + 1).toNatClampNeg), .int (xs (x4 + 2).toNatClampNeg), .int (xs (x4 + 3).toNatClampNeg), .int (xs (x4 + 4).toNatClampNeg), .int (xs (x4 + 5).toNatClampNeg)]) hC (m6_feed l g2) vL_6_feed h6_feed 0 5 gCl_X6 rfl rfl ⟨rfl, rfl, Nat.le_of_ble_eq_true rfl, Nat.le_of_ble_eq_true rfl⟩ ⟨by show _ ≤ 1200128; omega, by show _ ≤ 5501098; omega⟩ hP hD hl.1 (Nat.le_of_ble_eq_true rfl) dL_law_365 rfl) hP hD hS (fun r2 u2 H locs f2 hP hD hS => ?_)
  have hP := w3_P (w3_P hP)
  have hD := w3_D (w3_D hD)
  obtain ⟨rfl, f1⟩ := f1
  obtain ⟨rfl, f2⟩ := f2
  refine lv_icmp_eq (tgt := 2315) hC.x hC.b dL_law_368 (by decide) (fun _ => ?_) (fun c => absurd rfl c)
  refine W.widen (k := cells + 4644) (n := slots + 27909) (by omega) (by omega) ?_
  exact next _ _ _ _ _ _ _ _ _ _ ls (g3 _ _ f1 f2) hP hD hS hl
theorem vL_1_fault : GoodIn lw_all (wsV RX0 28 RX1 yX1_fault (ws_ yX1_fault cX1_fault 1 (some .int))) := lw_V q877 q878 q879 q118 q880
theorem vL_6_fault : GoodIn lw_all (wsV RX0 32 RX6 yX6_fault (ws_ yX6_fault cX6_fault 1 (some .int))) := lw_V q1775 q1776 q1777 q126 q1778
abbrev Ob_fault (Inv : Option TD → CS → Option (Nat → Nat) → MS → Prop) : Prop := ObI Inv (fun post tw S => w1_fault (fun p => post p S) S) (fun post tw S => w6_fault post S)
set_option maxHeartbeats 4000000 in
theorem lc_2 {Inv : Option TD → CS → Option (Nat → Nat) → MS → Prop} {w0 t0 : Option Nat} {tw : Option TD} {S : CS} {rdv : Option Nat} {tw' : Option (Nat → Nat)} {S' : MS} {ov : Nat → Int64} (hC : CX RX0 cL_law 7 (some .boolean) D gCl nwG Z Hb A p s m args meth c) (hX : va_X b L xs s s.heap) (hbl : b < s.heap.size) (hbA : ¬ A b) (h1 : vp_in (x4 + 1) L) (h2 : vp_in (x4 + 2) L) (h3 : vp_in (x4 + 3) L) (h4 : vp_in (x4 + 4) L) (h5 : vp_in (x4 + 5) L) (hcl : cells + 4644 ≤ 1200128) (hsl : slots + 27909 ≤ 5501098)
    (hO : Ob_fault Inv) (hI : Inv tw S tw' S') (hP : va_P D gCl (wL D ad am ao rf w0 t0 tw S rdv tw' S' ov) H) (hD : va_D A (wL D ad am ao rf w0 t0 tw S rdv tw' S' ov)) (hS : va_S A s.heap H locs) (hl : lv_has ls 7 (lL b ad am ao x4))
    (next : ∀ (w0 t0 : Option Nat) (tw : Option TD) (S : CS) (rdv : Option Nat) (tw' : Option (Nat → Nat)) (S' : MS) (ov : Nat → Int64) (H : Heap) (locs : List Loc) (ls : Array Slot), Inv tw S tw' S' → va_P D gCl (wL D ad am ao rf w0 t0 tw S rdv tw' S' ov) H → va_D A (wL D ad am ao rf w0 t0 tw S rdv tw' S' ov) → va_S A s.heap H locs → lv_has ls 7 (lL b ad am ao x4) → W p l e room_1 s m args below meth c H locs (cells + 4644) (slots + 27909) Q (F0 m 2315 ls [])) :
    W p l e room_1 s m args below meth c H locs cells slots Q (F0 m 398 ls []) := by
  obtain ⟨r, C2, M2, g1, g2, g3⟩ := hO tw S tw' S' hI
  refine lv_aload_n hC.x hC.b dL_law_398 rfl (lv_at hl 3 rfl) ?_
  refine fg_i hC (fr_V (rest := []) (As := []) hC (m1_fault l g1) vL_1_fault h1_fault 0 0 gCl_X1 rfl rfl ⟨rfl, rfl, Nat.le_of_ble_eq_true rfl, Nat.le_of_ble_eq_true rfl⟩ ⟨by show _ ≤ 1200128; omega, by show _ ≤ 5501098; omega⟩ hP hD hl.1 (Nat.le_of_ble_eq_true rfl) dL_law_399 rfl) hP hD hS (fun r1 u1 H locs f1 hP hD hS => ?_)
  have hP := w3_P hP
  have hD := w3_D hD
  refine lv_aload_n hC.x hC.b dL_law_402 rfl (lv_at hl 2 rfl) ?_
  refine fg_i hC (fr_V (rest := [.int r1]) (As := []) hC (m6_fault l g2) vL_6_fault h6_fault 0 5 gCl_X6 rfl rfl ⟨rfl, rfl, Nat.le_of_ble_eq_true rfl, Nat.le_of_ble_eq_true rfl⟩ ⟨by show _ ≤ 1200128; omega, by show _ ≤ 5501098; omega⟩ hP hD hl.1 (Nat.le_of_ble_eq_true rfl) dL_law_403 rfl) hP hD hS (fun r2 u2 H locs f2 hP hD hS => ?_)
  have hP := w3_P (w3_P hP)
  have hD := w3_D (w3_D hD)
  obtain ⟨rfl, f1⟩ := f1
  obtain ⟨rfl, f2⟩ := f2
  refine lv_icmp_eq (tgt := 2315) hC.x hC.b dL_law_406 (by decide) (fun _ => ?_) (fun c => absurd rfl c)
  refine W.widen (k := cells + 4644) (n := slots + 27909) (by omega) (by omega) ?_
  exact next _ _ _ _ _ _ _ _ _ _ ls (g3 _ _ f1 f2) hP hD hS hl
theorem vL_1_where : GoodIn lw_all (wsV RX0 33 RX1 yX1_where (ws_ yX1_where cX1_where 1 (some .int))) := lw_V q881 q882 q883 q118 q884
theorem vL_6_where : GoodIn lw_all (wsV RX0 36 RX6 yX6_where (ws_ yX6_where cX6_where 1 (some .int))) := lw_V q1779 q1780 q1781 q126 q1782
abbrev Ob_where (Inv : Option TD → CS → Option (Nat → Nat) → MS → Prop) : Prop := ObI Inv (fun post tw S => w1_where (fun p => post p S) S) (fun post tw S => w6_where post S)
set_option maxHeartbeats 4000000 in
theorem lc_3 {Inv : Option TD → CS → Option (Nat → Nat) → MS → Prop} {w0 t0 : Option Nat} {tw : Option TD} {S : CS} {rdv : Option Nat} {tw' : Option (Nat → Nat)} {S' : MS} {ov : Nat → Int64} (hC : CX RX0 cL_law 7 (some .boolean) D gCl nwG Z Hb A p s m args meth c) (hX : va_X b L xs s s.heap) (hbl : b < s.heap.size) (hbA : ¬ A b) (h1 : vp_in (x4 + 1) L) (h2 : vp_in (x4 + 2) L) (h3 : vp_in (x4 + 3) L) (h4 : vp_in (x4 + 4) L) (h5 : vp_in (x4 + 5) L) (hcl : cells + 4644 ≤ 1200128) (hsl : slots + 27909 ≤ 5501098)
    (hO : Ob_where Inv) (hI : Inv tw S tw' S') (hP : va_P D gCl (wL D ad am ao rf w0 t0 tw S rdv tw' S' ov) H) (hD : va_D A (wL D ad am ao rf w0 t0 tw S rdv tw' S' ov)) (hS : va_S A s.heap H locs) (hl : lv_has ls 7 (lL b ad am ao x4))
    (next : ∀ (w0 t0 : Option Nat) (tw : Option TD) (S : CS) (rdv : Option Nat) (tw' : Option (Nat → Nat)) (S' : MS) (ov : Nat → Int64) (H : Heap) (locs : List Loc) (ls : Array Slot), Inv tw S tw' S' → va_P D gCl (wL D ad am ao rf w0 t0 tw S rdv tw' S' ov) H → va_D A (wL D ad am ao rf w0 t0 tw S rdv tw' S' ov) → va_S A s.heap H locs → lv_has ls 7 (lL b ad am ao x4) → W p l e room_1 s m args below meth c H locs (cells + 4644) (slots + 27909) Q (F0 m 2315 ls [])) :
    W p l e room_1 s m args below meth c H locs cells slots Q (F0 m 411 ls []) := by
  obtain ⟨r, C2, M2, g1, g2, g3⟩ := hO tw S tw' S' hI
  refine lv_aload_n hC.x hC.b dL_law_411 rfl (lv_at hl 3 rfl) ?_
  refine fg_i hC (fr_V (rest := []) (As := []) hC (m1_where l g1) vL_1_where h1_where 0 0 gCl_X1 rfl rfl ⟨rfl, rfl, Nat.le_of_ble_eq_true rfl, Nat.le_of_ble_eq_true rfl⟩ ⟨by show _ ≤ 1200128; omega, by show _ ≤ 5501098; omega⟩ hP hD hl.1 (Nat.le_of_ble_eq_true rfl) dL_law_412 rfl) hP hD hS (fun r1 u1 H locs f1 hP hD hS => ?_)
  have hP := w3_P hP
  have hD := w3_D hD
  refine lv_aload_n hC.x hC.b dL_law_415 rfl (lv_at hl 2 rfl) ?_
  refine fg_i hC (fr_V (rest := [.int r1]) (As := []) hC (m6_where l g2) vL_6_where h6_where 0 5 gCl_X6 rfl rfl ⟨rfl, rfl, Nat.le_of_ble_eq_true rfl, Nat.le_of_ble_eq_true rfl⟩ ⟨by show _ ≤ 1200128; omega, by show _ ≤ 5501098; omega⟩ hP hD hl.1 (Nat.le_of_ble_eq_true rfl) dL_law_416 rfl) hP hD hS (fun r2 u2 H locs f2 hP hD hS => ?_)
  have hP := w3_P (w3_P hP)
  have hD := w3_D (w3_D hD)
  obtain ⟨rfl, f1⟩ := f1
  obtain ⟨rfl, f2⟩ := f2
  refine lv_icmp_eq (tgt := 2315) hC.x hC.b dL_law_419 (by decide) (fun _ => ?_) (fun c => absurd rfl c)
  refine W.widen (k := cells + 4644) (n := slots + 27909) (by omega) (by omega) ?_
  exact next _ _ _ _ _ _ _ _ _ _ ls (g3 _ _ f1 f2) hP hD hS hl
theorem vL_1_person : GoodIn lw_all (wsV RX0 37 RX1 yX1_person (ws_ yX1_person cX1_person 3 (some .int))) := lw_V q885 q886 q887 q118 q888
theorem vL_6_person : GoodIn lw_all (wsV RX0 41 RX6 yX6_person (ws_ yX6_person cX6_person 5 (some .int))) := lw_V q1783 q1784 q1785 q126 q1786
abbrev Ob_person (Inv : Option TD → CS → Option (Nat → Nat) → MS → Prop) (a0 a1 : Int32) : Prop := ObI Inv (fun post tw S => w1_person post tw S a0 a1) (fun post tw S => w6_person post tw S a0 a1)
set_option maxHeartbeats 4000000 in
theorem lc_4 {Inv : Option TD → CS → Option (Nat → Nat) → MS → Prop} {w0 t0 : Option Nat} {tw : Option TD} {S : CS} {rdv : Option Nat} {tw' : Option (Nat → Nat)} {S' : MS} {ov : Nat → Int64} (hC : CX RX0 cL_law 7 (some .boolean) D gCl nwG Z Hb A p s m args meth c) (hX : va_X b L xs s s.heap) (hbl : b < s.heap.size) (hbA : ¬ A b) (h1 : vp_in (x4 + 1) L) (h2 : vp_in (x4 + 2) L) (h3 : vp_in (x4 + 3) L) (h4 : vp_in (x4 + 4) L) (h5 : vp_in (x4 + 5) L) (hcl : cells + 4644 ≤ 1200128) (hsl : slots + 27909 ≤ 5501098)
    (hO : Ob_person Inv (xs (x4 + 1).toNatClampNeg) (xs (x4 + 2).toNatClampNeg)) (hI : Inv tw S tw' S') (hP : va_P D gCl (wL D ad am ao rf w0 t0 tw S rdv tw' S' ov) H) (hD : va_D A (wL D ad am ao rf w0 t0 tw S rdv tw' S' ov)) (hS : va_S A s.heap H locs) (hl : lv_has ls 7 (lL b ad am ao x4))
    (next : ∀ (w0 t0 : Option Nat) (tw : Option TD) (S : CS) (rdv : Option Nat) (tw' : Option (Nat → Nat)) (S' : MS) (ov : Nat → Int64) (H : Heap) (locs : List Loc) (ls : Array Slot), Inv tw S tw' S' → va_P D gCl (wL D ad am ao rf w0 t0 tw S rdv tw' S' ov) H → va_D A (wL D ad am ao rf w0 t0 tw S rdv tw' S' ov) → va_S A s.heap H locs → lv_has ls 7 (lL b ad am ao x4) → W p l e room_1 s m args below meth c H locs (cells + 4644) (slots + 27909) Q (F0 m 2315 ls [])) :
    W p l e room_1 s m args below meth c H locs cells slots Q (F0 m 424 ls []) := by
  obtain ⟨r, C2, M2, g1, g2, g3⟩ := hO tw S tw' S' hI
  refine lv_aload_n hC.x hC.b dL_law_424 rfl (lv_at hl 3 rfl) ?_
  refine lv_aload_n hC.x hC.b dL_law_425 rfl (lv_at hl 4 rfl) ?_
  refine lv_iload hC.x hC.b dL_law_426 (lv_at hl 0 rfl) ?_
  refine lv_iconst (v := 1) hC.x hC.b dL_law_428 (by decide) ?_
  refine lv_iadd hC.x hC.b dL_law_429 ?_
  refine va_sld hC.x hC.b hX hbl hbA hS h1 dL_law_430 ?_
  refine lv_aload_n hC.x hC.b dL_law_431 rfl (lv_at hl 4 rfl) ?_
  refine lv_iload hC.x hC.b dL_law_432 (lv_at hl 0 rfl) ?_
  refine lv_iconst (v := 2) hC.x hC.b dL_law_434 (by decide) ?_
  refine lv_iadd hC.x hC.b dL_law_435 ?_
  refine va_sld hC.x hC.b hX hbl hbA hS h2 dL_law_436 ?_
  refine fg_i hC (fr_V (rest := []) (As := [.int (xs (x4 + 1).toNatClampNeg), .int (xs (x4 + 2).toNatClampNeg)]) hC (m1_person l g1) vL_1_person h1_person 0 0 gCl_X1 rfl rfl ⟨rfl, rfl, Nat.le_of_ble_eq_true rfl, Nat.le_of_ble_eq_true rfl⟩ ⟨by show _ ≤ 1200128; omega, by show _ ≤ 5501098; omega⟩ hP hD hl.1 (Nat.le_of_ble_eq_true rfl) dL_law_437 rfl) hP hD hS (fun r1 u1 H locs f1 hP hD hS => ?_)
  have hP := w3_P hP
  have hD := w3_D hD
  refine lv_aload_n hC.x hC.b dL_law_440 rfl (lv_at hl 2 rfl) ?_
  refine lv_aload_n hC.x hC.b dL_law_441 rfl (lv_at hl 4 rfl) ?_
  refine lv_iload hC.x hC.b dL_law_442 (lv_at hl 0 rfl) ?_
  refine lv_iconst (v := 1) hC.x hC.b dL_law_444 (by decide) ?_
  refine lv_iadd hC.x hC.b dL_law_445 ?_
  refine va_sld hC.x hC.b hX hbl hbA hS h1 dL_law_446 ?_
  refine lv_aload_n hC.x hC.b dL_law_447 rfl (lv_at hl 4 rfl) ?_
  refine lv_iload hC.x hC.b dL_law_448 (lv_at hl 0 rfl) ?_
  refine lv_iconst (v := 2) hC.x hC.b dL_law_450 (by decide) ?_
  refine lv_iadd hC.x hC.b dL_law_451 ?_
  refine va_sld hC.x hC.b hX hbl hbA hS h2 dL_law_452 ?_
  refine fg_i hC (fr_V (rest := [.int r1]) (As := [.int (xs (x4 + 1).toNatClampNeg), .int (xs (x4 + 2).toNatClampNeg)]) hC (m6_person l g2) vL_6_person h6_person 0 5 gCl_X6 rfl rfl ⟨rfl, rfl, Nat.le_of_ble_eq_true rfl, Nat.le_of_ble_eq_true rfl⟩ ⟨by show _ ≤ 1200128; omega, by show _ ≤ 5501098; omega⟩ hP hD hl.1 (Nat.le_of_ble_eq_true rfl) dL_law_453 rfl) hP hD hS (fun r2 u2 H locs f2 hP hD hS => ?_)
  have hP := w3_P (w3_P hP)
  have hD := w3_D (w3_D hD)
  obtain ⟨rfl, f1⟩ := f1
  obtain ⟨rfl, f2⟩ := f2
  refine lv_icmp_eq (tgt := 2315) hC.x hC.b dL_law_456 (by decide) (fun _ => ?_) (fun c => absurd rfl c)
  refine W.widen (k := cells + 4644) (n := slots + 27909) (by omega) (by omega) ?_
  exact next _ _ _ _ _ _ _ _ _ _ ls (g3 _ _ f1 f2) hP hD hS hl
theorem vL_1_dead : GoodIn lw_all (wsV RX0 42 RX1 yX1_dead (ws_ yX1_dead cX1_dead 3 (some .int))) := lw_V q941 q942 q943 q118 q944
theorem vL_6_dead : GoodIn lw_all (wsV RX0 45 RX6 yX6_dead (ws_ yX6_dead cX6_dead 3 (some .int))) := lw_V q1823 q1824 q1825 q126 q1826
abbrev Ob_dead (Inv : Option TD → CS → Option (Nat → Nat) → MS → Prop) (a0 a1 : Int32) : Prop := ObI Inv (fun post tw S => w1_dead post tw S a0 a1) (fun post tw S => w6_dead post tw S a0 a1)
set_option maxHeartbeats 4000000 in
theorem lc_5 {Inv : Option TD → CS → Option (Nat → Nat) → MS → Prop} {w0 t0 : Option Nat} {tw : Option TD} {S : CS} {rdv : Option Nat} {tw' : Option (Nat → Nat)} {S' : MS} {ov : Nat → Int64} (hC : CX RX0 cL_law 7 (some .boolean) D gCl nwG Z Hb A p s m args meth c) (hX : va_X b L xs s s.heap) (hbl : b < s.heap.size) (hbA : ¬ A b) (h1 : vp_in (x4 + 1) L) (h2 : vp_in (x4 + 2) L) (h3 : vp_in (x4 + 3) L) (h4 : vp_in (x4 + 4) L) (h5 : vp_in (x4 + 5) L) (hcl : cells + 4644 ≤ 1200128) (hsl : slots + 27909 ≤ 5501098)
    (hO : Ob_dead Inv (xs (x4 + 1).toNatClampNeg) (xs (x4 + 2).toNatClampNeg)) (hI : Inv tw S tw' S') (hP : va_P D gCl (wL D ad am ao rf w0 t0 tw S rdv tw' S' ov) H) (hD : va_D A (wL D ad am ao rf w0 t0 tw S rdv tw' S' ov)) (hS : va_S A s.heap H locs) (hl : lv_has ls 7 (lL b ad am ao x4))
    (next : ∀ (w0 t0 : Option Nat) (tw : Option TD) (S : CS) (rdv : Option Nat) (tw' : Option (Nat → Nat)) (S' : MS) (ov : Nat → Int64) (H : Heap) (locs : List Loc) (ls : Array Slot), Inv tw S tw' S' → va_P D gCl (wL D ad am ao rf w0 t0 tw S rdv tw' S' ov) H → va_D A (wL D ad am ao rf w0 t0 tw S rdv tw' S' ov) → va_S A s.heap H locs → lv_has ls 7 (lL b ad am ao x4) → W p l e room_1 s m args below meth c H locs (cells + 4644) (slots + 27909) Q (F0 m 2315 ls [])) :
    W p l e room_1 s m args below meth c H locs cells slots Q (F0 m 461 ls []) := by
  obtain ⟨r, C2, M2, g1, g2, g3⟩ := hO tw S tw' S' hI
  refine lv_aload_n hC.x hC.b dL_law_461 rfl (lv_at hl 3 rfl) ?_
  refine lv_aload_n hC.x hC.b dL_law_462 rfl (lv_at hl 4 rfl) ?_
  refine lv_iload hC.x hC.b dL_law_463 (lv_at hl 0 rfl) ?_
  refine lv_iconst (v := 1) hC.x hC.b dL_law_465 (by decide) ?_
  refine lv_iadd hC.x hC.b dL_law_466 ?_
  refine va_sld hC.x hC.b hX hbl hbA hS h1 dL_law_467 ?_
  refine lv_aload_n hC.x hC.b dL_law_468 rfl (lv_at hl 4 rfl) ?_
  refine lv_iload hC.x hC.b dL_law_469 (lv_at hl 0 rfl) ?_
  refine lv_iconst (v := 2) hC.x hC.b dL_law_471 (by decide) ?_
  refine lv_iadd hC.x hC.b dL_law_472 ?_
  refine va_sld hC.x hC.b hX hbl hbA hS h2 dL_law_473 ?_
  refine fg_i hC (fr_V (rest := []) (As := [.int (xs (x4 + 1).toNatClampNeg), .int (xs (x4 + 2).toNatClampNeg)]) hC (m1_dead l g1) vL_1_dead h1_dead 0 0 gCl_X1 rfl rfl ⟨rfl, rfl, Nat.le_of_ble_eq_true rfl, Nat.le_of_ble_eq_true rfl⟩ ⟨by show _ ≤ 1200128; omega, by show _ ≤ 5501098; omega⟩ hP hD hl.1 (Nat.le_of_ble_eq_true rfl) dL_law_474 rfl) hP hD hS (fun r1 u1 H locs f1 hP hD hS => ?_)
  have hP := w3_P hP
  have hD := w3_D hD
  refine lv_aload_n hC.x hC.b dL_law_477 rfl (lv_at hl 2 rfl) ?_
  refine lv_aload_n hC.x hC.b dL_law_478 rfl (lv_at hl 4 rfl) ?_
  refine lv_iload hC.x hC.b dL_law_479 (lv_at hl 0 rfl) ?_
  refine lv_iconst (v := 1) hC.x hC.b dL_law_481 (by decide) ?_
  refine lv_iadd hC.x hC.b dL_law_482 ?_
  refine va_sld hC.x hC.b hX hbl hbA hS h1 dL_law_483 ?_
  refine lv_aload_n hC.x hC.b dL_law_484 rfl (lv_at hl 4 rfl) ?_
  refine lv_iload hC.x hC.b dL_law_485 (lv_at hl 0 rfl) ?_
  refine lv_iconst (v := 2) hC.x hC.b dL_law_487 (by decide) ?_
  refine lv_iadd hC.x hC.b dL_law_488 ?_
  refine va_sld hC.x hC.b hX hbl hbA hS h2 dL_law_489 ?_
  refine fg_i hC (fr_V (rest := [.int r1]) (As := [.int (xs (x4 + 1).toNatClampNeg), .int (xs (x4 + 2).toNatClampNeg)]) hC (m6_dead l g2) vL_6_dead h6_dead 0 5 gCl_X6 rfl rfl ⟨rfl, rfl, Nat.le_of_ble_eq_true rfl, Nat.le_of_ble_eq_true rfl⟩ ⟨by show _ ≤ 1200128; omega, by show _ ≤ 5501098; omega⟩ hP hD hl.1 (Nat.le_of_ble_eq_true rfl) dL_law_490 rfl) hP hD hS (fun r2 u2 H locs f2 hP hD hS => ?_)
  have hP := w3_P (w3_P hP)
  have hD := w3_D (w3_D hD)
  obtain ⟨rfl, f1⟩ := f1
  obtain ⟨rfl, f2⟩ := f2
  refine lv_icmp_eq (tgt := 2315) hC.x hC.b dL_law_493 (by decide) (fun _ => ?_) (fun c => absurd rfl c)
  refine W.widen (k := cells + 4644) (n := slots + 27909) (by omega) (by omega) ?_
  exact next _ _ _ _ _ _ _ _ _ _ ls (g3 _ _ f1 f2) hP hD hS hl
theorem vL_1_house : GoodIn lw_all (wsV RX0 46 RX1 yX1_house (ws_ yX1_house cX1_house 2 (some .int))) := lw_V q966 q967 q968 q118 q969
theorem vL_6_house : GoodIn lw_all (wsV RX0 49 RX6 yX6_house (ws_ yX6_house cX6_house 2 (some .int))) := lw_V q1831 q1832 q1833 q126 q1834
abbrev Ob_house (Inv : Option TD → CS → Option (Nat → Nat) → MS → Prop) (a0 : Int32) : Prop := ObI Inv (fun post tw S => w1_house post tw S a0) (fun post tw S => w6_house post tw S a0)
set_option maxHeartbeats 4000000 in
theorem lc_6 {Inv : Option TD → CS → Option (Nat → Nat) → MS → Prop} {w0 t0 : Option Nat} {tw : Option TD} {S : CS} {rdv : Option Nat} {tw' : Option (Nat → Nat)} {S' : MS} {ov : Nat → Int64} (hC : CX RX0 cL_law 7 (some .boolean) D gCl nwG Z Hb A p s m args meth c) (hX : va_X b L xs s s.heap) (hbl : b < s.heap.size) (hbA : ¬ A b) (h1 : vp_in (x4 + 1) L) (h2 : vp_in (x4 + 2) L) (h3 : vp_in (x4 + 3) L) (h4 : vp_in (x4 + 4) L) (h5 : vp_in (x4 + 5) L) (hcl : cells + 4644 ≤ 1200128) (hsl : slots + 27909 ≤ 5501098)
    (hO : Ob_house Inv (xs (x4 + 1).toNatClampNeg)) (hI : Inv tw S tw' S') (hP : va_P D gCl (wL D ad am ao rf w0 t0 tw S rdv tw' S' ov) H) (hD : va_D A (wL D ad am ao rf w0 t0 tw S rdv tw' S' ov)) (hS : va_S A s.heap H locs) (hl : lv_has ls 7 (lL b ad am ao x4))
    (next : ∀ (w0 t0 : Option Nat) (tw : Option TD) (S : CS) (rdv : Option Nat) (tw' : Option (Nat → Nat)) (S' : MS) (ov : Nat → Int64) (H : Heap) (locs : List Loc) (ls : Array Slot), Inv tw S tw' S' → va_P D gCl (wL D ad am ao rf w0 t0 tw S rdv tw' S' ov) H → va_D A (wL D ad am ao rf w0 t0 tw S rdv tw' S' ov) → va_S A s.heap H locs → lv_has ls 7 (lL b ad am ao x4) → W p l e room_1 s m args below meth c H locs (cells + 4644) (slots + 27909) Q (F0 m 2315 ls [])) :
    W p l e room_1 s m args below meth c H locs cells slots Q (F0 m 498 ls []) := by
  obtain ⟨r, C2, M2, g1, g2, g3⟩ := hO tw S tw' S' hI
  refine lv_aload_n hC.x hC.b dL_law_498 rfl (lv_at hl 3 rfl) ?_
  refine lv_aload_n hC.x hC.b dL_law_499 rfl (lv_at hl 4 rfl) ?_
  refine lv_iload hC.x hC.b dL_law_500 (lv_at hl 0 rfl) ?_
  refine lv_iconst (v := 1) hC.x hC.b dL_law_502 (by decide) ?_
  refine lv_iadd hC.x hC.b dL_law_503 ?_
  refine va_sld hC.x hC.b hX hbl hbA hS h1 dL_law_504 ?_
  refine fg_i hC (fr_V (rest := []) (As := [.int (xs (x4 + 1).toNatClampNeg)]) hC (m1_house l g1) vL_1_house h1_house 0 0 gCl_X1 rfl rfl ⟨rfl, rfl, Nat.le_of_ble_eq_true rfl, Nat.le_of_ble_eq_true rfl⟩ ⟨by show _ ≤ 1200128; omega, by show _ ≤ 5501098; omega⟩ hP hD hl.1 (Nat.le_of_ble_eq_true rfl) dL_law_505 rfl) hP hD hS (fun r1 u1 H locs f1 hP hD hS => ?_)
  have hP := w3_P hP
  have hD := w3_D hD
  refine lv_aload_n hC.x hC.b dL_law_508 rfl (lv_at hl 2 rfl) ?_
  refine lv_aload_n hC.x hC.b dL_law_509 rfl (lv_at hl 4 rfl) ?_
  refine lv_iload hC.x hC.b dL_law_510 (lv_at hl 0 rfl) ?_
  refine lv_iconst (v := 1) hC.x hC.b dL_law_512 (by decide) ?_
  refine lv_iadd hC.x hC.b dL_law_513 ?_
  refine va_sld hC.x hC.b hX hbl hbA hS h1 dL_law_514 ?_
  refine fg_i hC (fr_V (rest := [.int r1]) (As := [.int (xs (x4 + 1).toNatClampNeg)]) hC (m6_house l g2) vL_6_house h6_house 0 5 gCl_X6 rfl rfl ⟨rfl, rfl, Nat.le_of_ble_eq_true rfl, Nat.le_of_ble_eq_true rfl⟩ ⟨by show _ ≤ 1200128; omega, by show _ ≤ 5501098; omega⟩ hP hD hl.1 (Nat.le_of_ble_eq_true rfl) dL_law_515 rfl) hP hD hS (fun r2 u2 H locs f2 hP hD hS => ?_)
  have hP := w3_P (w3_P hP)
  have hD := w3_D (w3_D hD)
  obtain ⟨rfl, f1⟩ := f1
  obtain ⟨rfl, f2⟩ := f2
  refine lv_icmp_eq (tgt := 2315) hC.x hC.b dL_law_518 (by decide) (fun _ => ?_) (fun c => absurd rfl c)
  refine W.widen (k := cells + 4644) (n := slots + 27909) (by omega) (by omega) ?_
  exact next _ _ _ _ _ _ _ _ _ _ ls (g3 _ _ f1 f2) hP hD hS hl
theorem vL_1_comesOut : GoodIn lw_all (wsV RX0 50 RX1 yX1_comesOut (ws_ yX1_comesOut cX1_comesOut 4 (some .int))) := lw_V q975 q976 q977 q118 q978
theorem vL_6_comesOut : GoodIn lw_all (wsV RX0 53 RX6 yX6_comesOut (ws_ yX6_comesOut cX6_comesOut 4 (some .int))) := lw_V q1839 q1840 q1841 q126 q1842
abbrev Ob_comesOut (Inv : Option TD → CS → Option (Nat → Nat) → MS → Prop) (a0 a1 : Int32) : Prop := ObI Inv (fun post tw S => w1_comesOut post tw S a0 a1) (fun post tw S => w6_comesOut post tw S a0 a1)
set_option maxHeartbeats 4000000 in
theorem lc_7 {Inv : Option TD → CS → Option (Nat → Nat) → MS → Prop} {w0 t0 : Option Nat} {tw : Option TD} {S : CS} {rdv : Option Nat} {tw' : Option (Nat → Nat)} {S' : MS} {ov : Nat → Int64} (hC : CX RX0 cL_law 7 (some .boolean) D gCl nwG Z Hb A p s m args meth c) (hX : va_X b L xs s s.heap) (hbl : b < s.heap.size) (hbA : ¬ A b) (h1 : vp_in (x4 + 1) L) (h2 : vp_in (x4 + 2) L) (h3 : vp_in (x4 + 3) L) (h4 : vp_in (x4 + 4) L) (h5 : vp_in (x4 + 5) L) (hcl : cells + 4644 ≤ 1200128) (hsl : slots + 27909 ≤ 5501098)
    (hO : Ob_comesOut Inv (xs (x4 + 1).toNatClampNeg) (xs (x4 + 2).toNatClampNeg)) (hI : Inv tw S tw' S') (hP : va_P D gCl (wL D ad am ao rf w0 t0 tw S rdv tw' S' ov) H) (hD : va_D A (wL D ad am ao rf w0 t0 tw S rdv tw' S' ov)) (hS : va_S A s.heap H locs) (hl : lv_has ls 7 (lL b ad am ao x4))
    (next : ∀ (w0 t0 : Option Nat) (tw : Option TD) (S : CS) (rdv : Option Nat) (tw' : Option (Nat → Nat)) (S' : MS) (ov : Nat → Int64) (H : Heap) (locs : List Loc) (ls : Array Slot), Inv tw S tw' S' → va_P D gCl (wL D ad am ao rf w0 t0 tw S rdv tw' S' ov) H → va_D A (wL D ad am ao rf w0 t0 tw S rdv tw' S' ov) → va_S A s.heap H locs → lv_has ls 7 (lL b ad am ao x4) → W p l e room_1 s m args below meth c H locs (cells + 4644) (slots + 27909) Q (F0 m 2315 ls [])) :
    W p l e room_1 s m args below meth c H locs cells slots Q (F0 m 523 ls []) := by
  obtain ⟨r, C2, M2, g1, g2, g3⟩ := hO tw S tw' S' hI
  refine lv_aload_n hC.x hC.b dL_law_523 rfl (lv_at hl 3 rfl) ?_
  refine lv_aload_n hC.x hC.b dL_law_524 rfl (lv_at hl 4 rfl) ?_
  refine lv_iload hC.x hC.b dL_law_525 (lv_at hl 0 rfl) ?_
  refine lv_iconst (v := 1) hC.x hC.b dL_law_527 (by decide) ?_
  refine lv_iadd hC.x hC.b dL_law_528 ?_
  refine va_sld hC.x hC.b hX hbl hbA hS h1 dL_law_529 ?_
  refine lv_aload_n hC.x hC.b dL_law_530 rfl (lv_at hl 4 rfl) ?_
  refine lv_iload hC.x hC.b dL_law_531 (lv_at hl 0 rfl) ?_
  refine lv_iconst (v := 2) hC.x hC.b dL_law_533 (by decide) ?_
  refine lv_iadd hC.x hC.b dL_law_534 ?_
  refine va_sld hC.x hC.b hX hbl hbA hS h2 dL_law_535 ?_
  refine fg_i hC (fr_V (rest := []) (As := [.int (xs (x4 + 1).toNatClampNeg), .int (xs (x4 + 2).toNatClampNeg)]) hC (m1_comesOut l g1) vL_1_comesOut h1_comesOut 0 0 gCl_X1 rfl rfl ⟨rfl, rfl, Nat.le_of_ble_eq_true rfl, Nat.le_of_ble_eq_true rfl⟩ ⟨by show _ ≤ 1200128; omega, by show _ ≤ 5501098; omega⟩ hP hD hl.1 (Nat.le_of_ble_eq_true rfl) dL_law_536 rfl) hP hD hS (fun r1 u1 H locs f1 hP hD hS => ?_)
  have hP := w3_P hP
  have hD := w3_D hD
  refine lv_aload_n hC.x hC.b dL_law_539 rfl (lv_at hl 2 rfl) ?_
  refine lv_aload_n hC.x hC.b dL_law_540 rfl (lv_at hl 4 rfl) ?_
  refine lv_iload hC.x hC.b dL_law_541 (lv_at hl 0 rfl) ?_
  refine lv_iconst (v := 1) hC.x hC.b dL_law_543 (by decide) ?_
  refine lv_iadd hC.x hC.b dL_law_544 ?_
  refine va_sld hC.x hC.b hX hbl hbA hS h1 dL_law_545 ?_
  refine lv_aload_n hC.x hC.b dL_law_546 rfl (lv_at hl 4 rfl) ?_
  refine lv_iload hC.x hC.b dL_law_547 (lv_at hl 0 rfl) ?_
  refine lv_iconst (v := 2) hC.x hC.b dL_law_549 (by decide) ?_
  refine lv_iadd hC.x hC.b dL_law_550 ?_
  refine va_sld hC.x hC.b hX hbl hbA hS h2 dL_law_551 ?_
  refine fg_i hC (fr_V (rest := [.int r1]) (As := [.int (xs (x4 + 1).toNatClampNeg), .int (xs (x4 + 2).toNatClampNeg)]) hC (m6_comesOut l g2) vL_6_comesOut h6_comesOut 0 5 gCl_X6 rfl rfl ⟨rfl, rfl, Nat.le_of_ble_eq_true rfl, Nat.le_of_ble_eq_true rfl⟩ ⟨by show _ ≤ 1200128; omega, by show _ ≤ 5501098; omega⟩ hP hD hl.1 (Nat.le_of_ble_eq_true rfl) dL_law_552 rfl) hP hD hS (fun r2 u2 H locs f2 hP hD hS => ?_)
  have hP := w3_P (w3_P hP)
  have hD := w3_D (w3_D hD)
  obtain ⟨rfl, f1⟩ := f1
  obtain ⟨rfl, f2⟩ := f2
  refine lv_icmp_eq (tgt := 2315) hC.x hC.b dL_law_555 (by decide) (fun _ => ?_) (fun c => absurd rfl c)
  refine W.widen (k := cells + 4644) (n := slots + 27909) (by omega) (by omega) ?_
  exact next _ _ _ _ _ _ _ _ _ _ ls (g3 _ _ f1 f2) hP hD hS hl
theorem vL_1_outIf : GoodIn lw_all (wsV RX0 54 RX1 yX1_outIf (ws_ yX1_outIf cX1_outIf 5 (some .int))) := lw_V q989 q990 q991 q118 q992
theorem vL_6_outIf : GoodIn lw_all (wsV RX0 58 RX6 yX6_outIf (ws_ yX6_outIf cX6_outIf 5 (some .int))) := lw_V q1847 q1848 q1849 q126 q1850
abbrev Ob_outIf (Inv : Option TD → CS → Option (Nat → Nat) → MS → Prop) (a0 a1 a2 : Int32) : Prop := ObI Inv (fun post tw S => w1_outIf post tw S a0 a1 a2) (fun post tw S => w6_outIf post tw S a0 a1 a2)
set_option maxHeartbeats 4000000 in
theorem lc_8 {Inv : Option TD → CS → Option (Nat → Nat) → MS → Prop} {w0 t0 : Option Nat} {tw : Option TD} {S : CS} {rdv : Option Nat} {tw' : Option (Nat → Nat)} {S' : MS} {ov : Nat → Int64} (hC : CX RX0 cL_law 7 (some .boolean) D gCl nwG Z Hb A p s m args meth c) (hX : va_X b L xs s s.heap) (hbl : b < s.heap.size) (hbA : ¬ A b) (h1 : vp_in (x4 + 1) L) (h2 : vp_in (x4 + 2) L) (h3 : vp_in (x4 + 3) L) (h4 : vp_in (x4 + 4) L) (h5 : vp_in (x4 + 5) L) (hcl : cells + 4644 ≤ 1200128) (hsl : slots + 27909 ≤ 5501098)
    (hO : Ob_outIf Inv (xs (x4 + 1).toNatClampNeg) (xs (x4 + 2).toNatClampNeg) (xs (x4 + 3).toNatClampNeg)) (hI : Inv tw S tw' S') (hP : va_P D gCl (wL D ad am ao rf w0 t0 tw S rdv tw' S' ov) H) (hD : va_D A (wL D ad am ao rf w0 t0 tw S rdv tw' S' ov)) (hS : va_S A s.heap H locs) (hl : lv_has ls 7 (lL b ad am ao x4))
    (next : ∀ (w0 t0 : Option Nat) (tw : Option TD) (S : CS) (rdv : Option Nat) (tw' : Option (Nat → Nat)) (S' : MS) (ov : Nat → Int64) (H : Heap) (locs : List Loc) (ls : Array Slot), Inv tw S tw' S' → va_P D gCl (wL D ad am ao rf w0 t0 tw S rdv tw' S' ov) H → va_D A (wL D ad am ao rf w0 t0 tw S rdv tw' S' ov) → va_S A s.heap H locs → lv_has ls 7 (lL b ad am ao x4) → W p l e room_1 s m args below meth c H locs (cells + 4644) (slots + 27909) Q (F0 m 2315 ls [])) :
    W p l e room_1 s m args below meth c H locs cells slots Q (F0 m 560 ls []) := by
  obtain ⟨r, C2, M2, g1, g2, g3⟩ := hO tw S tw' S' hI
  refine lv_aload_n hC.x hC.b dL_law_560 rfl (lv_at hl 3 rfl) ?_
  refine lv_aload_n hC.x hC.b dL_law_561 rfl (lv_at hl 4 rfl) ?_
  refine lv_iload hC.x hC.b dL_law_562 (lv_at hl 0 rfl) ?_
  refine lv_iconst (v := 1) hC.x hC.b dL_law_564 (by decide) ?_
  refine lv_iadd hC.x hC.b dL_law_565 ?_
  refine va_sld hC.x hC.b hX hbl hbA hS h1 dL_law_566 ?_
  refine lv_aload_n hC.x hC.b dL_law_567 rfl (lv_at hl 4 rfl) ?_
  refine lv_iload hC.x hC.b dL_law_568 (lv_at hl 0 rfl) ?_
  refine lv_iconst (v := 2) hC.x hC.b dL_law_570 (by decide) ?_
  refine lv_iadd hC.x hC.b dL_law_571 ?_
  refine va_sld hC.x hC.b hX hbl hbA hS h2 dL_law_572 ?_
  refine lv_aload_n hC.x hC.b dL_law_573 rfl (lv_at hl 4 rfl) ?_
  refine lv_iload hC.x hC.b dL_law_574 (lv_at hl 0 rfl) ?_
  refine lv_iconst (v := 3) hC.x hC.b dL_law_576 (by decide) ?_
  refine lv_iadd hC.x hC.b dL_law_577 ?_
  refine va_sld hC.x hC.b hX hbl hbA hS h3 dL_law_578 ?_
  refine fg_i hC (fr_V (rest := []) (As := [.int (xs (x4 + 1).toNatClampNeg), .int (xs (x4 + 2).toNatClampNeg), .int (xs (x4 + 3).toNatClampNeg)]) hC (m1_outIf l g1) vL_1_outIf h1_outIf 0 0 gCl_X1 rfl rfl ⟨rfl, rfl, Nat.le_of_ble_eq_true rfl, Nat.le_of_ble_eq_true rfl⟩ ⟨by show _ ≤ 1200128; omega, by show _ ≤ 5501098; omega⟩ hP hD hl.1 (Nat.le_of_ble_eq_true rfl) dL_law_579 rfl) hP hD hS (fun r1 u1 H locs f1 hP hD hS => ?_)
  have hP := w3_P hP
  have hD := w3_D hD
  refine lv_aload_n hC.x hC.b dL_law_582 rfl (lv_at hl 2 rfl) ?_
  refine lv_aload_n hC.x hC.b dL_law_583 rfl (lv_at hl 4 rfl) ?_
  refine lv_iload hC.x hC.b dL_law_584 (lv_at hl 0 rfl) ?_
  refine lv_iconst (v := 1) hC.x hC.b dL_law_586 (by decide) ?_
  refine lv_iadd hC.x hC.b dL_law_587 ?_
  refine va_sld hC.x hC.b hX hbl hbA hS h1 dL_law_588 ?_
  refine lv_aload_n hC.x hC.b dL_law_589 rfl (lv_at hl 4 rfl) ?_
  refine lv_iload hC.x hC.b dL_law_590 (lv_at hl 0 rfl) ?_
  refine lv_iconst (v := 2) hC.x hC.b dL_law_592 (by decide) ?_
  refine lv_iadd hC.x hC.b dL_law_593 ?_
  refine va_sld hC.x hC.b hX hbl hbA hS h2 dL_law_594 ?_
  refine lv_aload_n hC.x hC.b dL_law_595 rfl (lv_at hl 4 rfl) ?_
  refine lv_iload hC.x hC.b dL_law_596 (lv_at hl 0 rfl) ?_
  refine lv_iconst (v := 3) hC.x hC.b dL_law_598 (by decide) ?_
  refine lv_iadd hC.x hC.b dL_law_599 ?_
  refine va_sld hC.x hC.b hX hbl hbA hS h3 dL_law_600 ?_
  refine fg_i hC (fr_V (rest := [.int r1]) (As := [.int (xs (x4 + 1).toNatClampNeg), .int (xs (x4 + 2).toNatClampNeg), .int (xs (x4 + 3).toNatClampNeg)]) hC (m6_outIf l g2) vL_6_outIf h6_outIf 0 5 gCl_X6 rfl rfl ⟨rfl, rfl, Nat.le_of_ble_eq_true rfl, Nat.le_of_ble_eq_true rfl⟩ ⟨by show _ ≤ 1200128; omega, by show _ ≤ 5501098; omega⟩ hP hD hl.1 (Nat.le_of_ble_eq_true rfl) dL_law_601 rfl) hP hD hS (fun r2 u2 H locs f2 hP hD hS => ?_)
  have hP := w3_P (w3_P hP)
  have hD := w3_D (w3_D hD)
  obtain ⟨rfl, f1⟩ := f1
  obtain ⟨rfl, f2⟩ := f2
  refine lv_icmp_eq (tgt := 2315) hC.x hC.b dL_law_604 (by decide) (fun _ => ?_) (fun c => absurd rfl c)
  refine W.widen (k := cells + 4644) (n := slots + 27909) (by omega) (by omega) ?_
  exact next _ _ _ _ _ _ _ _ _ _ ls (g3 _ _ f1 f2) hP hD hS hl
theorem vL_1_hears : GoodIn lw_all (wsV RX0 59 RX1 yX1_hears (ws_ yX1_hears cX1_hears 4 (some .int))) := lw_V q993 q994 q995 q118 q996
theorem vL_6_hears : GoodIn lw_all (wsV RX0 62 RX6 yX6_hears (ws_ yX6_hears cX6_hears 4 (some .int))) := lw_V q1851 q1852 q1853 q126 q1854
abbrev Ob_hears (Inv : Option TD → CS → Option (Nat → Nat) → MS → Prop) (a0 a1 : Int32) : Prop := ObI Inv (fun post tw S => w1_hears post tw S a0 a1) (fun post tw S => w6_hears post tw S a0 a1)
set_option maxHeartbeats 4000000 in
theorem lc_9 {Inv : Option TD → CS → Option (Nat → Nat) → MS → Prop} {w0 t0 : Option Nat} {tw : Option TD} {S : CS} {rdv : Option Nat} {tw' : Option (Nat → Nat)} {S' : MS} {ov : Nat → Int64} (hC : CX RX0 cL_law 7 (some .boolean) D gCl nwG Z Hb A p s m args meth c) (hX : va_X b L xs s s.heap) (hbl : b < s.heap.size) (hbA : ¬ A b) (h1 : vp_in (x4 + 1) L) (h2 : vp_in (x4 + 2) L) (h3 : vp_in (x4 + 3) L) (h4 : vp_in (x4 + 4) L) (h5 : vp_in (x4 + 5) L) (hcl : cells + 4644 ≤ 1200128) (hsl : slots + 27909 ≤ 5501098)
    (hO : Ob_hears Inv (xs (x4 + 1).toNatClampNeg) (xs (x4 + 2).toNatClampNeg)) (hI : Inv tw S tw' S') (hP : va_P D gCl (wL D ad am ao rf w0 t0 tw S rdv tw' S' ov) H) (hD : va_D A (wL D ad am ao rf w0 t0 tw S rdv tw' S' ov)) (hS : va_S A s.heap H locs) (hl : lv_has ls 7 (lL b ad am ao x4))
    (next : ∀ (w0 t0 : Option Nat) (tw : Option TD) (S : CS) (rdv : Option Nat) (tw' : Option (Nat → Nat)) (S' : MS) (ov : Nat → Int64) (H : Heap) (locs : List Loc) (ls : Array Slot), Inv tw S tw' S' → va_P D gCl (wL D ad am ao rf w0 t0 tw S rdv tw' S' ov) H → va_D A (wL D ad am ao rf w0 t0 tw S rdv tw' S' ov) → va_S A s.heap H locs → lv_has ls 7 (lL b ad am ao x4) → W p l e room_1 s m args below meth c H locs (cells + 4644) (slots + 27909) Q (F0 m 2315 ls [])) :
    W p l e room_1 s m args below meth c H locs cells slots Q (F0 m 609 ls []) := by
  obtain ⟨r, C2, M2, g1, g2, g3⟩ := hO tw S tw' S' hI
  refine lv_aload_n hC.x hC.b dL_law_609 rfl (lv_at hl 3 rfl) ?_
  refine lv_aload_n hC.x hC.b dL_law_610 rfl (lv_at hl 4 rfl) ?_
  refine lv_iload hC.x hC.b dL_law_611 (lv_at hl 0 rfl) ?_
  refine lv_iconst (v := 1) hC.x hC.b dL_law_613 (by decide) ?_
  refine lv_iadd hC.x hC.b dL_law_614 ?_
  refine va_sld hC.x hC.b hX hbl hbA hS h1 dL_law_615 ?_
  refine lv_aload_n hC.x hC.b dL_law_616 rfl (lv_at hl 4 rfl) ?_
  refine lv_iload hC.x hC.b dL_law_617 (lv_at hl 0 rfl) ?_
  refine lv_iconst (v := 2) hC.x hC.b dL_law_619 (by decide) ?_
  refine lv_iadd hC.x hC.b dL_law_620 ?_
  refine va_sld hC.x hC.b hX hbl hbA hS h2 dL_law_621 ?_
  refine fg_i hC (fr_V (rest := []) (As := [.int (xs (x4 + 1).toNatClampNeg), .int (xs (x4 + 2).toNatClampNeg)]) hC (m1_hears l g1) vL_1_hears h1_hears 0 0 gCl_X1 rfl rfl ⟨rfl, rfl, Nat.le_of_ble_eq_true rfl, Nat.le_of_ble_eq_true rfl⟩ ⟨by show _ ≤ 1200128; omega, by show _ ≤ 5501098; omega⟩ hP hD hl.1 (Nat.le_of_ble_eq_true rfl) dL_law_622 rfl) hP hD hS (fun r1 u1 H locs f1 hP hD hS => ?_)
  have hP := w3_P hP
  have hD := w3_D hD
  refine lv_aload_n hC.x hC.b dL_law_625 rfl (lv_at hl 2 rfl) ?_
  refine lv_aload_n hC.x hC.b dL_law_626 rfl (lv_at hl 4 rfl) ?_
  refine lv_iload hC.x hC.b dL_law_627 (lv_at hl 0 rfl) ?_
  refine lv_iconst (v := 1) hC.x hC.b dL_law_629 (by decide) ?_
  refine lv_iadd hC.x hC.b dL_law_630 ?_
  refine va_sld hC.x hC.b hX hbl hbA hS h1 dL_law_631 ?_
  refine lv_aload_n hC.x hC.b dL_law_632 rfl (lv_at hl 4 rfl) ?_
  refine lv_iload hC.x hC.b dL_law_633 (lv_at hl 0 rfl) ?_
  refine lv_iconst (v := 2) hC.x hC.b dL_law_635 (by decide) ?_
  refine lv_iadd hC.x hC.b dL_law_636 ?_
  refine va_sld hC.x hC.b hX hbl hbA hS h2 dL_law_637 ?_
  refine fg_i hC (fr_V (rest := [.int r1]) (As := [.int (xs (x4 + 1).toNatClampNeg), .int (xs (x4 + 2).toNatClampNeg)]) hC (m6_hears l g2) vL_6_hears h6_hears 0 5 gCl_X6 rfl rfl ⟨rfl, rfl, Nat.le_of_ble_eq_true rfl, Nat.le_of_ble_eq_true rfl⟩ ⟨by show _ ≤ 1200128; omega, by show _ ≤ 5501098; omega⟩ hP hD hl.1 (Nat.le_of_ble_eq_true rfl) dL_law_638 rfl) hP hD hS (fun r2 u2 H locs f2 hP hD hS => ?_)
  have hP := w3_P (w3_P hP)
  have hD := w3_D (w3_D hD)
  obtain ⟨rfl, f1⟩ := f1
  obtain ⟨rfl, f2⟩ := f2
  refine lv_icmp_eq (tgt := 2315) hC.x hC.b dL_law_641 (by decide) (fun _ => ?_) (fun c => absurd rfl c)
  refine W.widen (k := cells + 4644) (n := slots + 27909) (by omega) (by omega) ?_
  exact next _ _ _ _ _ _ _ _ _ _ ls (g3 _ _ f1 f2) hP hD hS hl
theorem vL_1_off : GoodIn lw_all (wsV RX0 63 RX1 yX1_off (ws_ yX1_off cX1_off 4 (some .int))) := lw_V q998 q999 q1000 q118 q1001
theorem vL_6_off : GoodIn lw_all (wsV RX0 66 RX6 yX6_off (ws_ yX6_off cX6_off 4 (some .int))) := lw_V q1855 q1856 q1857 q126 q1858
abbrev Ob_off (Inv : Option TD → CS → Option (Nat → Nat) → MS → Prop) (a0 a1 : Int32) : Prop := ObI Inv (fun post tw S => w1_off post tw S a0 a1) (fun post tw S => w6_off post tw S a0 a1)
set_option maxHeartbeats 4000000 in
theorem lc_10 {Inv : Option TD → CS → Option (Nat → Nat) → MS → Prop} {w0 t0 : Option Nat} {tw : Option TD} {S : CS} {rdv : Option Nat} {tw' : Option (Nat → Nat)} {S' : MS} {ov : Nat → Int64} (hC : CX RX0 cL_law 7 (some .boolean) D gCl nwG Z Hb A p s m args meth c) (hX : va_X b L xs s s.heap) (hbl : b < s.heap.size) (hbA : ¬ A b) (h1 : vp_in (x4 + 1) L) (h2 : vp_in (x4 + 2) L) (h3 : vp_in (x4 + 3) L) (h4 : vp_in (x4 + 4) L) (h5 : vp_in (x4 + 5) L) (hcl : cells + 4644 ≤ 1200128) (hsl : slots + 27909 ≤ 5501098)
    (hO : Ob_off Inv (xs (x4 + 1).toNatClampNeg) (xs (x4 + 2).toNatClampNeg)) (hI : Inv tw S tw' S') (hP : va_P D gCl (wL D ad am ao rf w0 t0 tw S rdv tw' S' ov) H) (hD : va_D A (wL D ad am ao rf w0 t0 tw S rdv tw' S' ov)) (hS : va_S A s.heap H locs) (hl : lv_has ls 7 (lL b ad am ao x4))
    (next : ∀ (w0 t0 : Option Nat) (tw : Option TD) (S : CS) (rdv : Option Nat) (tw' : Option (Nat → Nat)) (S' : MS) (ov : Nat → Int64) (H : Heap) (locs : List Loc) (ls : Array Slot), Inv tw S tw' S' → va_P D gCl (wL D ad am ao rf w0 t0 tw S rdv tw' S' ov) H → va_D A (wL D ad am ao rf w0 t0 tw S rdv tw' S' ov) → va_S A s.heap H locs → lv_has ls 7 (lL b ad am ao x4) → W p l e room_1 s m args below meth c H locs (cells + 4644) (slots + 27909) Q (F0 m 2315 ls [])) :
    W p l e room_1 s m args below meth c H locs cells slots Q (F0 m 646 ls []) := by
  obtain ⟨r, C2, M2, g1, g2, g3⟩ := hO tw S tw' S' hI
  refine lv_aload_n hC.x hC.b dL_law_646 rfl (lv_at hl 3 rfl) ?_
  refine lv_aload_n hC.x hC.b dL_law_647 rfl (lv_at hl 4 rfl) ?_
  refine lv_iload hC.x hC.b dL_law_648 (lv_at hl 0 rfl) ?_
  refine lv_iconst (v := 1) hC.x hC.b dL_law_650 (by decide) ?_
  refine lv_iadd hC.x hC.b dL_law_651 ?_
  refine va_sld hC.x hC.b hX hbl hbA hS h1 dL_law_652 ?_
  refine lv_aload_n hC.x hC.b dL_law_653 rfl (lv_at hl 4 rfl) ?_
  refine lv_iload hC.x hC.b dL_law_654 (lv_at hl 0 rfl) ?_
  refine lv_iconst (v := 2) hC.x hC.b dL_law_656 (by decide) ?_
  refine lv_iadd hC.x hC.b dL_law_657 ?_
  refine va_sld hC.x hC.b hX hbl hbA hS h2 dL_law_658 ?_
  refine fg_i hC (fr_V (rest := []) (As := [.int (xs (x4 + 1).toNatClampNeg), .int (xs (x4 + 2).toNatClampNeg)]) hC (m1_off l g1) vL_1_off h1_off 0 0 gCl_X1 rfl rfl ⟨rfl, rfl, Nat.le_of_ble_eq_true rfl, Nat.le_of_ble_eq_true rfl⟩ ⟨by show _ ≤ 1200128; omega, by show _ ≤ 5501098; omega⟩ hP hD hl.1 (Nat.le_of_ble_eq_true rfl) dL_law_659 rfl) hP hD hS (fun r1 u1 H locs f1 hP hD hS => ?_)
  have hP := w3_P hP
  have hD := w3_D hD
  refine lv_aload_n hC.x hC.b dL_law_662 rfl (lv_at hl 2 rfl) ?_
  refine lv_aload_n hC.x hC.b dL_law_663 rfl (lv_at hl 4 rfl) ?_
  refine lv_iload hC.x hC.b dL_law_664 (lv_at hl 0 rfl) ?_
  refine lv_iconst (v := 1) hC.x hC.b dL_law_666 (by decide) ?_
  refine lv_iadd hC.x hC.b dL_law_667 ?_
  refine va_sld hC.x hC.b hX hbl hbA hS h1 dL_law_668 ?_
  refine lv_aload_n hC.x hC.b dL_law_669 rfl (lv_at hl 4 rfl) ?_
  refine lv_iload hC.x hC.b dL_law_670 (lv_at hl 0 rfl) ?_
  refine lv_iconst (v := 2) hC.x hC.b dL_law_672 (by decide) ?_
  refine lv_iadd hC.x hC.b dL_law_673 ?_
  refine va_sld hC.x hC.b hX hbl hbA hS h2 dL_law_674 ?_
  refine fg_i hC (fr_V (rest := [.int r1]) (As := [.int (xs (x4 + 1).toNatClampNeg), .int (xs (x4 + 2).toNatClampNeg)]) hC (m6_off l g2) vL_6_off h6_off 0 5 gCl_X6 rfl rfl ⟨rfl, rfl, Nat.le_of_ble_eq_true rfl, Nat.le_of_ble_eq_true rfl⟩ ⟨by show _ ≤ 1200128; omega, by show _ ≤ 5501098; omega⟩ hP hD hl.1 (Nat.le_of_ble_eq_true rfl) dL_law_675 rfl) hP hD hS (fun r2 u2 H locs f2 hP hD hS => ?_)
  have hP := w3_P (w3_P hP)
  have hD := w3_D (w3_D hD)
  obtain ⟨rfl, f1⟩ := f1
  obtain ⟨rfl, f2⟩ := f2
  refine lv_icmp_eq (tgt := 2315) hC.x hC.b dL_law_678 (by decide) (fun _ => ?_) (fun c => absurd rfl c)
  refine W.widen (k := cells + 4644) (n := slots + 27909) (by omega) (by omega) ?_
  exact next _ _ _ _ _ _ _ _ _ _ ls (g3 _ _ f1 f2) hP hD hS hl
theorem vL_1_right : GoodIn lw_all (wsV RX0 67 RX1 yX1_right (ws_ yX1_right cX1_right 3 (some .int))) := lw_V q1003 q1004 q1005 q118 q1006
theorem vL_6_right : GoodIn lw_all (wsV RX0 70 RX6 yX6_right (ws_ yX6_right cX6_right 3 (some .int))) := lw_V q1859 q1860 q1861 q126 q1862
abbrev Ob_right (Inv : Option TD → CS → Option (Nat → Nat) → MS → Prop) (a0 : Int32) : Prop := ObI Inv (fun post tw S => w1_right post tw S a0) (fun post tw S => w6_right post tw S a0)
set_option maxHeartbeats 4000000 in
theorem lc_11 {Inv : Option TD → CS → Option (Nat → Nat) → MS → Prop} {w0 t0 : Option Nat} {tw : Option TD} {S : CS} {rdv : Option Nat} {tw' : Option (Nat → Nat)} {S' : MS} {ov : Nat → Int64} (hC : CX RX0 cL_law 7 (some .boolean) D gCl nwG Z Hb A p s m args meth c) (hX : va_X b L xs s s.heap) (hbl : b < s.heap.size) (hbA : ¬ A b) (h1 : vp_in (x4 + 1) L) (h2 : vp_in (x4 + 2) L) (h3 : vp_in (x4 + 3) L) (h4 : vp_in (x4 + 4) L) (h5 : vp_in (x4 + 5) L) (hcl : cells + 4644 ≤ 1200128) (hsl : slots + 27909 ≤ 5501098)
    (hO : Ob_right Inv (xs (x4 + 1).toNatClampNeg)) (hI : Inv tw S tw' S') (hP : va_P D gCl (wL D ad am ao rf w0 t0 tw S rdv tw' S' ov) H) (hD : va_D A (wL D ad am ao rf w0 t0 tw S rdv tw' S' ov)) (hS : va_S A s.heap H locs) (hl : lv_has ls 7 (lL b ad am ao x4))
    (next : ∀ (w0 t0 : Option Nat) (tw : Option TD) (S : CS) (rdv : Option Nat) (tw' : Option (Nat → Nat)) (S' : MS) (ov : Nat → Int64) (H : Heap) (locs : List Loc) (ls : Array Slot), Inv tw S tw' S' → va_P D gCl (wL D ad am ao rf w0 t0 tw S rdv tw' S' ov) H → va_D A (wL D ad am ao rf w0 t0 tw S rdv tw' S' ov) → va_S A s.heap H locs → lv_has ls 7 (lL b ad am ao x4) → W p l e room_1 s m args below meth c H locs (cells + 4644) (slots + 27909) Q (F0 m 2315 ls [])) :
    W p l e room_1 s m args below meth c H locs cells slots Q (F0 m 683 ls []) := by
  obtain ⟨r, C2, M2, g1, g2, g3⟩ := hO tw S tw' S' hI
  refine lv_aload_n hC.x hC.b dL_law_683 rfl (lv_at hl 3 rfl) ?_
  refine lv_aload_n hC.x hC.b dL_law_684 rfl (lv_at hl 4 rfl) ?_
  refine lv_iload hC.x hC.b dL_law_685 (lv_at hl 0 rfl) ?_
  refine lv_iconst (v := 1) hC.x hC.b dL_law_687 (by decide) ?_
  refine lv_iadd hC.x hC.b dL_law_688 ?_
  refine va_sld hC.x hC.b hX hbl hbA hS h1 dL_law_689 ?_
  refine fg_i hC (fr_V (rest := []) (As := [.int (xs (x4 + 1).toNatClampNeg)]) hC (m1_right l g1) vL_1_right h1_right 0 0 gCl_X1 rfl rfl ⟨rfl, rfl, Nat.le_of_ble_eq_true rfl, Nat.le_of_ble_eq_true rfl⟩ ⟨by show _ ≤ 1200128; omega, by show _ ≤ 5501098; omega⟩ hP hD hl.1 (Nat.le_of_ble_eq_true rfl) dL_law_690 rfl) hP hD hS (fun r1 u1 H locs f1 hP hD hS => ?_)
  have hP := w3_P hP
  have hD := w3_D hD
  refine lv_aload_n hC.x hC.b dL_law_693 rfl (lv_at hl 2 rfl) ?_
  refine lv_aload_n hC.x hC.b dL_law_694 rfl (lv_at hl 4 rfl) ?_
  refine lv_iload hC.x hC.b dL_law_695 (lv_at hl 0 rfl) ?_
  refine lv_iconst (v := 1) hC.x hC.b dL_law_697 (by decide) ?_
  refine lv_iadd hC.x hC.b dL_law_698 ?_
  refine va_sld hC.x hC.b hX hbl hbA hS h1 dL_law_699 ?_
  refine fg_i hC (fr_V (rest := [.int r1]) (As := [.int (xs (x4 + 1).toNatClampNeg)]) hC (m6_right l g2) vL_6_right h6_right 0 5 gCl_X6 rfl rfl ⟨rfl, rfl, Nat.le_of_ble_eq_true rfl, Nat.le_of_ble_eq_true rfl⟩ ⟨by show _ ≤ 1200128; omega, by show _ ≤ 5501098; omega⟩ hP hD hl.1 (Nat.le_of_ble_eq_true rfl) dL_law_700 rfl) hP hD hS (fun r2 u2 H locs f2 hP hD hS => ?_)
  have hP := w3_P (w3_P hP)
  have hD := w3_D (w3_D hD)
  obtain ⟨rfl, f1⟩ := f1
  obtain ⟨rfl, f2⟩ := f2
  refine lv_icmp_eq (tgt := 2315) hC.x hC.b dL_law_703 (by decide) (fun _ => ?_) (fun c => absurd rfl c)
  refine W.widen (k := cells + 4644) (n := slots + 27909) (by omega) (by omega) ?_
  exact next _ _ _ _ _ _ _ _ _ _ ls (g3 _ _ f1 f2) hP hD hS hl
theorem vL_1_medium : GoodIn lw_all (wsV RX0 71 RX1 yX1_medium (ws_ yX1_medium cX1_medium 5 (some .int))) := lw_V q1015 q1016 q1017 q118 q1018
theorem vL_6_medium : GoodIn lw_all (wsV RX0 74 RX6 yX6_medium (ws_ yX6_medium cX6_medium 5 (some .int))) := lw_V q1871 q1872 q1873 q126 q1874
abbrev Ob_medium (Inv : Option TD → CS → Option (Nat → Nat) → MS → Prop) (a0 : Int32) : Prop := ObI Inv (fun post tw S => w1_medium post tw S a0) (fun post tw S => w6_medium post tw S a0)
set_option maxHeartbeats 4000000 in
theorem lc_12 {Inv : Option TD → CS → Option (Nat → Nat) → MS → Prop} {w0 t0 : Option Nat} {tw : Option TD} {S : CS} {rdv : Option Nat} {tw' : Option (Nat → Nat)} {S' : MS} {ov : Nat → Int64} (hC : CX RX0 cL_law 7 (some .boolean) D gCl nwG Z Hb A p s m args meth c) (hX : va_X b L xs s s.heap) (hbl : b < s.heap.size) (hbA : ¬ A b) (h1 : vp_in (x4 + 1) L) (h2 : vp_in (x4 + 2) L) (h3 : vp_in (x4 + 3) L) (h4 : vp_in (x4 + 4) L) (h5 : vp_in (x4 + 5) L) (hcl : cells + 4644 ≤ 1200128) (hsl : slots + 27909 ≤ 5501098)
    (hO : Ob_medium Inv (xs (x4 + 1).toNatClampNeg)) (hI : Inv tw S tw' S') (hP : va_P D gCl (wL D ad am ao rf w0 t0 tw S rdv tw' S' ov) H) (hD : va_D A (wL D ad am ao rf w0 t0 tw S rdv tw' S' ov)) (hS : va_S A s.heap H locs) (hl : lv_has ls 7 (lL b ad am ao x4))
    (next : ∀ (w0 t0 : Option Nat) (tw : Option TD) (S : CS) (rdv : Option Nat) (tw' : Option (Nat → Nat)) (S' : MS) (ov : Nat → Int64) (H : Heap) (locs : List Loc) (ls : Array Slot), Inv tw S tw' S' → va_P D gCl (wL D ad am ao rf w0 t0 tw S rdv tw' S' ov) H → va_D A (wL D ad am ao rf w0 t0 tw S rdv tw' S' ov) → va_S A s.heap H locs → lv_has ls 7 (lL b ad am ao x4) → W p l e room_1 s m args below meth c H locs (cells + 4644) (slots + 27909) Q (F0 m 2315 ls [])) :
    W p l e room_1 s m args below meth c H locs cells slots Q (F0 m 708 ls []) := by
  obtain ⟨r, C2, M2, g1, g2, g3⟩ := hO tw S tw' S' hI
  refine lv_aload_n hC.x hC.b dL_law_708 rfl (lv_at hl 3 rfl) ?_
  refine lv_aload_n hC.x hC.b dL_law_709 rfl (lv_at hl 4 rfl) ?_
  refine lv_iload hC.x hC.b dL_law_710 (lv_at hl 0 rfl) ?_
  refine lv_iconst (v := 1) hC.x hC.b dL_law_712 (by decide) ?_
  refine lv_iadd hC.x hC.b dL_law_713 ?_
  refine va_sld hC.x hC.b hX hbl hbA hS h1 dL_law_714 ?_
  refine fg_i hC (fr_V (rest := []) (As := [.int (xs (x4 + 1).toNatClampNeg)]) hC (m1_medium l g1) vL_1_medium h1_medium 0 0 gCl_X1 rfl rfl ⟨rfl, rfl, Nat.le_of_ble_eq_true rfl, Nat.le_of_ble_eq_true rfl⟩ ⟨by show _ ≤ 1200128; omega, by show _ ≤ 5501098; omega⟩ hP hD hl.1 (Nat.le_of_ble_eq_true rfl) dL_law_715 rfl) hP hD hS (fun r1 u1 H locs f1 hP hD hS => ?_)
  have hP := w3_P hP
  have hD := w3_D hD
  refine lv_aload_n hC.x hC.b dL_law_718 rfl (lv_at hl 2 rfl) ?_
  refine lv_aload_n hC.x hC.b dL_law_719 rfl (lv_at hl 4 rfl) ?_
  refine lv_iload hC.x hC.b dL_law_720 (lv_at hl 0 rfl) ?_
  refine lv_iconst (v := 1) hC.x hC.b dL_law_722 (by decide) ?_
  refine lv_iadd hC.x hC.b dL_law_723 ?_
  refine va_sld hC.x hC.b hX hbl hbA hS h1 dL_law_724 ?_
  refine fg_i hC (fr_V (rest := [.int r1]) (As := [.int (xs (x4 + 1).toNatClampNeg)]) hC (m6_medium l g2) vL_6_medium h6_medium 0 5 gCl_X6 rfl rfl ⟨rfl, rfl, Nat.le_of_ble_eq_true rfl, Nat.le_of_ble_eq_true rfl⟩ ⟨by show _ ≤ 1200128; omega, by show _ ≤ 5501098; omega⟩ hP hD hl.1 (Nat.le_of_ble_eq_true rfl) dL_law_725 rfl) hP hD hS (fun r2 u2 H locs f2 hP hD hS => ?_)
  have hP := w3_P (w3_P hP)
  have hD := w3_D (w3_D hD)
  obtain ⟨rfl, f1⟩ := f1
  obtain ⟨rfl, f2⟩ := f2
  refine lv_icmp_eq (tgt := 2315) hC.x hC.b dL_law_728 (by decide) (fun _ => ?_) (fun c => absurd rfl c)
  refine W.widen (k := cells + 4644) (n := slots + 27909) (by omega) (by omega) ?_
  exact next _ _ _ _ _ _ _ _ _ _ ls (g3 _ _ f1 f2) hP hD hS hl
theorem vL_1_silent : GoodIn lw_all (wsV RX0 75 RX1 yX1_silent (ws_ yX1_silent cX1_silent 5 (some .int))) := lw_V q1022 q1023 q1024 q118 q1025
theorem vL_6_silent : GoodIn lw_all (wsV RX0 78 RX6 yX6_silent (ws_ yX6_silent cX6_silent 5 (some .int))) := lw_V q1878 q1879 q1880 q126 q1881
abbrev Ob_silent (Inv : Option TD → CS → Option (Nat → Nat) → MS → Prop) (a0 : Int32) : Prop := ObI Inv (fun post tw S => w1_silent post tw S a0) (fun post tw S => w6_silent post tw S a0)
set_option maxHeartbeats 4000000 in
theorem lc_13 {Inv : Option TD → CS → Option (Nat → Nat) → MS → Prop} {w0 t0 : Option Nat} {tw : Option TD} {S : CS} {rdv : Option Nat} {tw' : Option (Nat → Nat)} {S' : MS} {ov : Nat → Int64} (hC : CX RX0 cL_law 7 (some .boolean) D gCl nwG Z Hb A p s m args meth c) (hX : va_X b L xs s s.heap) (hbl : b < s.heap.size) (hbA : ¬ A b) (h1 : vp_in (x4 + 1) L) (h2 : vp_in (x4 + 2) L) (h3 : vp_in (x4 + 3) L) (h4 : vp_in (x4 + 4) L) (h5 : vp_in (x4 + 5) L) (hcl : cells + 4644 ≤ 1200128) (hsl : slots + 27909 ≤ 5501098)
    (hO : Ob_silent Inv (xs (x4 + 1).toNatClampNeg)) (hI : Inv tw S tw' S') (hP : va_P D gCl (wL D ad am ao rf w0 t0 tw S rdv tw' S' ov) H) (hD : va_D A (wL D ad am ao rf w0 t0 tw S rdv tw' S' ov)) (hS : va_S A s.heap H locs) (hl : lv_has ls 7 (lL b ad am ao x4))
    (next : ∀ (w0 t0 : Option Nat) (tw : Option TD) (S : CS) (rdv : Option Nat) (tw' : Option (Nat → Nat)) (S' : MS) (ov : Nat → Int64) (H : Heap) (locs : List Loc) (ls : Array Slot), Inv tw S tw' S' → va_P D gCl (wL D ad am ao rf w0 t0 tw S rdv tw' S' ov) H → va_D A (wL D ad am ao rf w0 t0 tw S rdv tw' S' ov) → va_S A s.heap H locs → lv_has ls 7 (lL b ad am ao x4) → W p l e room_1 s m args below meth c H locs (cells + 4644) (slots + 27909) Q (F0 m 2315 ls [])) :
    W p l e room_1 s m args below meth c H locs cells slots Q (F0 m 733 ls []) := by
  obtain ⟨r, C2, M2, g1, g2, g3⟩ := hO tw S tw' S' hI
  refine lv_aload_n hC.x hC.b dL_law_733 rfl (lv_at hl 3 rfl) ?_
  refine lv_aload_n hC.x hC.b dL_law_734 rfl (lv_at hl 4 rfl) ?_
  refine lv_iload hC.x hC.b dL_law_735 (lv_at hl 0 rfl) ?_
  refine lv_iconst (v := 1) hC.x hC.b dL_law_737 (by decide) ?_
  refine lv_iadd hC.x hC.b dL_law_738 ?_
  refine va_sld hC.x hC.b hX hbl hbA hS h1 dL_law_739 ?_
  refine fg_i hC (fr_V (rest := []) (As := [.int (xs (x4 + 1).toNatClampNeg)]) hC (m1_silent l g1) vL_1_silent h1_silent 0 0 gCl_X1 rfl rfl ⟨rfl, rfl, Nat.le_of_ble_eq_true rfl, Nat.le_of_ble_eq_true rfl⟩ ⟨by show _ ≤ 1200128; omega, by show _ ≤ 5501098; omega⟩ hP hD hl.1 (Nat.le_of_ble_eq_true rfl) dL_law_740 rfl) hP hD hS (fun r1 u1 H locs f1 hP hD hS => ?_)
  have hP := w3_P hP
  have hD := w3_D hD
  refine lv_aload_n hC.x hC.b dL_law_743 rfl (lv_at hl 2 rfl) ?_
  refine lv_aload_n hC.x hC.b dL_law_744 rfl (lv_at hl 4 rfl) ?_
  refine lv_iload hC.x hC.b dL_law_745 (lv_at hl 0 rfl) ?_
  refine lv_iconst (v := 1) hC.x hC.b dL_law_747 (by decide) ?_
  refine lv_iadd hC.x hC.b dL_law_748 ?_
  refine va_sld hC.x hC.b hX hbl hbA hS h1 dL_law_749 ?_
  refine fg_i hC (fr_V (rest := [.int r1]) (As := [.int (xs (x4 + 1).toNatClampNeg)]) hC (m6_silent l g2) vL_6_silent h6_silent 0 5 gCl_X6 rfl rfl ⟨rfl, rfl, Nat.le_of_ble_eq_true rfl, Nat.le_of_ble_eq_true rfl⟩ ⟨by show _ ≤ 1200128; omega, by show _ ≤ 5501098; omega⟩ hP hD hl.1 (Nat.le_of_ble_eq_true rfl) dL_law_750 rfl) hP hD hS (fun r2 u2 H locs f2 hP hD hS => ?_)
  have hP := w3_P (w3_P hP)
  have hD := w3_D (w3_D hD)
  obtain ⟨rfl, f1⟩ := f1
  obtain ⟨rfl, f2⟩ := f2
  refine lv_icmp_eq (tgt := 2315) hC.x hC.b dL_law_753 (by decide) (fun _ => ?_) (fun c => absurd rfl c)
  refine W.widen (k := cells + 4644) (n := slots + 27909) (by omega) (by omega) ?_
  exact next _ _ _ _ _ _ _ _ _ _ ls (g3 _ _ f1 f2) hP hD hS hl
theorem vL_1_rightFrom : GoodIn lw_all (wsV RX0 79 RX1 yX1_rightFrom (ws_ yX1_rightFrom cX1_rightFrom 5 (some .int))) := lw_V q1026 q1027 q1028 q118 q1029
theorem vL_6_rightFrom : GoodIn lw_all (wsV RX0 82 RX6 yX6_rightFrom (ws_ yX6_rightFrom cX6_rightFrom 5 (some .int))) := lw_V q1882 q1883 q1884 q126 q1885
abbrev Ob_rightFrom (Inv : Option TD → CS → Option (Nat → Nat) → MS → Prop) (a0 a1 : Int32) : Prop := ObI Inv (fun post tw S => w1_rightFrom post tw S a0 a1) (fun post tw S => w6_rightFrom post tw S a0 a1)
set_option maxHeartbeats 4000000 in
theorem lc_14 {Inv : Option TD → CS → Option (Nat → Nat) → MS → Prop} {w0 t0 : Option Nat} {tw : Option TD} {S : CS} {rdv : Option Nat} {tw' : Option (Nat → Nat)} {S' : MS} {ov : Nat → Int64} (hC : CX RX0 cL_law 7 (some .boolean) D gCl nwG Z Hb A p s m args meth c) (hX : va_X b L xs s s.heap) (hbl : b < s.heap.size) (hbA : ¬ A b) (h1 : vp_in (x4 + 1) L) (h2 : vp_in (x4 + 2) L) (h3 : vp_in (x4 + 3) L) (h4 : vp_in (x4 + 4) L) (h5 : vp_in (x4 + 5) L) (hcl : cells + 4644 ≤ 1200128) (hsl : slots + 27909 ≤ 5501098)
    (hO : Ob_rightFrom Inv (xs (x4 + 1).toNatClampNeg) (xs (x4 + 2).toNatClampNeg)) (hI : Inv tw S tw' S') (hP : va_P D gCl (wL D ad am ao rf w0 t0 tw S rdv tw' S' ov) H) (hD : va_D A (wL D ad am ao rf w0 t0 tw S rdv tw' S' ov)) (hS : va_S A s.heap H locs) (hl : lv_has ls 7 (lL b ad am ao x4))
    (next : ∀ (w0 t0 : Option Nat) (tw : Option TD) (S : CS) (rdv : Option Nat) (tw' : Option (Nat → Nat)) (S' : MS) (ov : Nat → Int64) (H : Heap) (locs : List Loc) (ls : Array Slot), Inv tw S tw' S' → va_P D gCl (wL D ad am ao rf w0 t0 tw S rdv tw' S' ov) H → va_D A (wL D ad am ao rf w0 t0 tw S rdv tw' S' ov) → va_S A s.heap H locs → lv_has ls 7 (lL b ad am ao x4) → W p l e room_1 s m args below meth c H locs (cells + 4644) (slots + 27909) Q (F0 m 2315 ls [])) :
    W p l e room_1 s m args below meth c H locs cells slots Q (F0 m 758 ls []) := by
  obtain ⟨r, C2, M2, g1, g2, g3⟩ := hO tw S tw' S' hI
  refine lv_aload_n hC.x hC.b dL_law_758 rfl (lv_at hl 3 rfl) ?_
  refine lv_aload_n hC.x hC.b dL_law_759 rfl (lv_at hl 4 rfl) ?_
  refine lv_iload hC.x hC.b dL_law_760 (lv_at hl 0 rfl) ?_
  refine lv_iconst (v := 1) hC.x hC.b dL_law_762 (by decide) ?_
  refine lv_iadd hC.x hC.b dL_law_763 ?_
  refine va_sld hC.x hC.b hX hbl hbA hS h1 dL_law_764 ?_
  refine lv_aload_n hC.x hC.b dL_law_765 rfl (lv_at hl 4 rfl) ?_
  refine lv_iload hC.x hC.b dL_law_766 (lv_at hl 0 rfl) ?_
  refine lv_iconst (v := 2) hC.x hC.b dL_law_768 (by decide) ?_
  refine lv_iadd hC.x hC.b dL_law_769 ?_
  refine va_sld hC.x hC.b hX hbl hbA hS h2 dL_law_770 ?_
  refine fg_i hC (fr_V (rest := []) (As := [.int (xs (x4 + 1).toNatClampNeg), .int (xs (x4 + 2).toNatClampNeg)]) hC (m1_rightFrom l g1) vL_1_rightFrom h1_rightFrom 0 0 gCl_X1 rfl rfl ⟨rfl, rfl, Nat.le_of_ble_eq_true rfl, Nat.le_of_ble_eq_true rfl⟩ ⟨by show _ ≤ 1200128; omega, by show _ ≤ 5501098; omega⟩ hP hD hl.1 (Nat.le_of_ble_eq_true rfl) dL_law_771 rfl) hP hD hS (fun r1 u1 H locs f1 hP hD hS => ?_)
  have hP := w3_P hP
  have hD := w3_D hD
  refine lv_aload_n hC.x hC.b dL_law_774 rfl (lv_at hl 2 rfl) ?_
  refine lv_aload_n hC.x hC.b dL_law_775 rfl (lv_at hl 4 rfl) ?_
  refine lv_iload hC.x hC.b dL_law_776 (lv_at hl 0 rfl) ?_
  refine lv_iconst (v := 1) hC.x hC.b dL_law_778 (by decide) ?_
  refine lv_iadd hC.x hC.b dL_law_779 ?_
  refine va_sld hC.x hC.b hX hbl hbA hS h1 dL_law_780 ?_
  refine lv_aload_n hC.x hC.b dL_law_781 rfl (lv_at hl 4 rfl) ?_
  refine lv_iload hC.x hC.b dL_law_782 (lv_at hl 0 rfl) ?_
  refine lv_iconst (v := 2) hC.x hC.b dL_law_784 (by decide) ?_
  refine lv_iadd hC.x hC.b dL_law_785 ?_
  refine va_sld hC.x hC.b hX hbl hbA hS h2 dL_law_786 ?_
  refine fg_i hC (fr_V (rest := [.int r1]) (As := [.int (xs (x4 + 1).toNatClampNeg), .int (xs (x4 + 2).toNatClampNeg)]) hC (m6_rightFrom l g2) vL_6_rightFrom h6_rightFrom 0 5 gCl_X6 rfl rfl ⟨rfl, rfl, Nat.le_of_ble_eq_true rfl, Nat.le_of_ble_eq_true rfl⟩ ⟨by show _ ≤ 1200128; omega, by show _ ≤ 5501098; omega⟩ hP hD hl.1 (Nat.le_of_ble_eq_true rfl) dL_law_787 rfl) hP hD hS (fun r2 u2 H locs f2 hP hD hS => ?_)
  have hP := w3_P (w3_P hP)
  have hD := w3_D (w3_D hD)
  obtain ⟨rfl, f1⟩ := f1
  obtain ⟨rfl, f2⟩ := f2
  refine lv_icmp_eq (tgt := 2315) hC.x hC.b dL_law_790 (by decide) (fun _ => ?_) (fun c => absurd rfl c)
  refine W.widen (k := cells + 4644) (n := slots + 27909) (by omega) (by omega) ?_
  exact next _ _ _ _ _ _ _ _ _ _ ls (g3 _ _ f1 f2) hP hD hS hl
theorem vL_1_nightsOf : GoodIn lw_all (wsV RX0 83 RX1 yX1_nightsOf (ws_ yX1_nightsOf cX1_nightsOf 5 (some .int))) := lw_V q1031 q1032 q1033 q118 q1034
theorem vL_6_nightsOf : GoodIn lw_all (wsV RX0 86 RX6 yX6_nightsOf (ws_ yX6_nightsOf cX6_nightsOf 5 (some .int))) := lw_V q1886 q1887 q1888 q126 q1889
abbrev Ob_nightsOf (Inv : Option TD → CS → Option (Nat → Nat) → MS → Prop) (a0 a1 : Int32) : Prop := ObI Inv (fun post tw S => w1_nightsOf post tw S a0 a1) (fun post tw S => w6_nightsOf post tw S a0 a1)
set_option maxHeartbeats 4000000 in
theorem lc_15 {Inv : Option TD → CS → Option (Nat → Nat) → MS → Prop} {w0 t0 : Option Nat} {tw : Option TD} {S : CS} {rdv : Option Nat} {tw' : Option (Nat → Nat)} {S' : MS} {ov : Nat → Int64} (hC : CX RX0 cL_law 7 (some .boolean) D gCl nwG Z Hb A p s m args meth c) (hX : va_X b L xs s s.heap) (hbl : b < s.heap.size) (hbA : ¬ A b) (h1 : vp_in (x4 + 1) L) (h2 : vp_in (x4 + 2) L) (h3 : vp_in (x4 + 3) L) (h4 : vp_in (x4 + 4) L) (h5 : vp_in (x4 + 5) L) (hcl : cells + 4644 ≤ 1200128) (hsl : slots + 27909 ≤ 5501098)
    (hO : Ob_nightsOf Inv (xs (x4 + 1).toNatClampNeg) (xs (x4 + 2).toNatClampNeg)) (hI : Inv tw S tw' S') (hP : va_P D gCl (wL D ad am ao rf w0 t0 tw S rdv tw' S' ov) H) (hD : va_D A (wL D ad am ao rf w0 t0 tw S rdv tw' S' ov)) (hS : va_S A s.heap H locs) (hl : lv_has ls 7 (lL b ad am ao x4))
    (next : ∀ (w0 t0 : Option Nat) (tw : Option TD) (S : CS) (rdv : Option Nat) (tw' : Option (Nat → Nat)) (S' : MS) (ov : Nat → Int64) (H : Heap) (locs : List Loc) (ls : Array Slot), Inv tw S tw' S' → va_P D gCl (wL D ad am ao rf w0 t0 tw S rdv tw' S' ov) H → va_D A (wL D ad am ao rf w0 t0 tw S rdv tw' S' ov) → va_S A s.heap H locs → lv_has ls 7 (lL b ad am ao x4) → W p l e room_1 s m args below meth c H locs (cells + 4644) (slots + 27909) Q (F0 m 2315 ls [])) :
    W p l e room_1 s m args below meth c H locs cells slots Q (F0 m 795 ls []) := by
  obtain ⟨r, C2, M2, g1, g2, g3⟩ := hO tw S tw' S' hI
  refine lv_aload_n hC.x hC.b dL_law_795 rfl (lv_at hl 3 rfl) ?_
  refine lv_aload_n hC.x hC.b dL_law_796 rfl (lv_at hl 4 rfl) ?_
  refine lv_iload hC.x hC.b dL_law_797 (lv_at hl 0 rfl) ?_
  refine lv_iconst (v := 1) hC.x hC.b dL_law_799 (by decide) ?_
  refine lv_iadd hC.x hC.b dL_law_800 ?_
  refine va_sld hC.x hC.b hX hbl hbA hS h1 dL_law_801 ?_
  refine lv_aload_n hC.x hC.b dL_law_802 rfl (lv_at hl 4 rfl) ?_
  refine lv_iload hC.x hC.b dL_law_803 (lv_at hl 0 rfl) ?_
  refine lv_iconst (v := 2) hC.x hC.b dL_law_805 (by decide) ?_
  refine lv_iadd hC.x hC.b dL_law_806 ?_
  refine va_sld hC.x hC.b hX hbl hbA hS h2 dL_law_807 ?_
  refine fg_i hC (fr_V (rest := []) (As := [.int (xs (x4 + 1).toNatClampNeg), .int (xs (x4 + 2).toNatClampNeg)]) hC (m1_nightsOf l g1) vL_1_nightsOf h1_nightsOf 0 0 gCl_X1 rfl rfl ⟨rfl, rfl, Nat.le_of_ble_eq_true rfl, Nat.le_of_ble_eq_true rfl⟩ ⟨by show _ ≤ 1200128; omega, by show _ ≤ 5501098; omega⟩ hP hD hl.1 (Nat.le_of_ble_eq_true rfl) dL_law_808 rfl) hP hD hS (fun r1 u1 H locs f1 hP hD hS => ?_)
  have hP := w3_P hP
  have hD := w3_D hD
  refine lv_aload_n hC.x hC.b dL_law_811 rfl (lv_at hl 2 rfl) ?_
  refine lv_aload_n hC.x hC.b dL_law_812 rfl (lv_at hl 4 rfl) ?_
  refine lv_iload hC.x hC.b dL_law_813 (lv_at hl 0 rfl) ?_
  refine lv_iconst (v := 1) hC.x hC.b dL_law_815 (by decide) ?_
  refine lv_iadd hC.x hC.b dL_law_816 ?_
  refine va_sld hC.x hC.b hX hbl hbA hS h1 dL_law_817 ?_
  refine lv_aload_n hC.x hC.b dL_law_818 rfl (lv_at hl 4 rfl) ?_
  refine lv_iload hC.x hC.b dL_law_819 (lv_at hl 0 rfl) ?_
  refine lv_iconst (v := 2) hC.x hC.b dL_law_821 (by decide) ?_
  refine lv_iadd hC.x hC.b dL_law_822 ?_
  refine va_sld hC.x hC.b hX hbl hbA hS h2 dL_law_823 ?_
  refine fg_i hC (fr_V (rest := [.int r1]) (As := [.int (xs (x4 + 1).toNatClampNeg), .int (xs (x4 + 2).toNatClampNeg)]) hC (m6_nightsOf l g2) vL_6_nightsOf h6_nightsOf 0 5 gCl_X6 rfl rfl ⟨rfl, rfl, Nat.le_of_ble_eq_true rfl, Nat.le_of_ble_eq_true rfl⟩ ⟨by show _ ≤ 1200128; omega, by show _ ≤ 5501098; omega⟩ hP hD hl.1 (Nat.le_of_ble_eq_true rfl) dL_law_824 rfl) hP hD hS (fun r2 u2 H locs f2 hP hD hS => ?_)
  have hP := w3_P (w3_P hP)
  have hD := w3_D (w3_D hD)
  obtain ⟨rfl, f1⟩ := f1
  obtain ⟨rfl, f2⟩ := f2
  refine lv_icmp_eq (tgt := 2315) hC.x hC.b dL_law_827 (by decide) (fun _ => ?_) (fun c => absurd rfl c)
  refine W.widen (k := cells + 4644) (n := slots + 27909) (by omega) (by omega) ?_
  exact next _ _ _ _ _ _ _ _ _ _ ls (g3 _ _ f1 f2) hP hD hS hl
theorem vL_1_round : GoodIn lw_all (wsV RX0 87 RX1 yX1_round (ws_ yX1_round cX1_round 2 (some .int))) := lw_V q1035 q1036 q1037 q118 q1038
theorem vL_6_round : GoodIn lw_all (wsV RX0 90 RX6 yX6_round (ws_ yX6_round cX6_round 3 (some .int))) := lw_V q1890 q1891 q1892 q126 q1893
abbrev Ob_round (Inv : Option TD → CS → Option (Nat → Nat) → MS → Prop) (a0 : Int32) : Prop := ObI Inv (fun post tw S => w1_round post tw S a0) (fun post tw S => w6_round post tw S a0)
set_option maxHeartbeats 4000000 in
theorem lc_16 {Inv : Option TD → CS → Option (Nat → Nat) → MS → Prop} {w0 t0 : Option Nat} {tw : Option TD} {S : CS} {rdv : Option Nat} {tw' : Option (Nat → Nat)} {S' : MS} {ov : Nat → Int64} (hC : CX RX0 cL_law 7 (some .boolean) D gCl nwG Z Hb A p s m args meth c) (hX : va_X b L xs s s.heap) (hbl : b < s.heap.size) (hbA : ¬ A b) (h1 : vp_in (x4 + 1) L) (h2 : vp_in (x4 + 2) L) (h3 : vp_in (x4 + 3) L) (h4 : vp_in (x4 + 4) L) (h5 : vp_in (x4 + 5) L) (hcl : cells + 4644 ≤ 1200128) (hsl : slots + 27909 ≤ 5501098)
    (hO : Ob_round Inv (xs (x4 + 1).toNatClampNeg)) (hI : Inv tw S tw' S') (hP : va_P D gCl (wL D ad am ao rf w0 t0 tw S rdv tw' S' ov) H) (hD : va_D A (wL D ad am ao rf w0 t0 tw S rdv tw' S' ov)) (hS : va_S A s.heap H locs) (hl : lv_has ls 7 (lL b ad am ao x4))
    (next : ∀ (w0 t0 : Option Nat) (tw : Option TD) (S : CS) (rdv : Option Nat) (tw' : Option (Nat → Nat)) (S' : MS) (ov : Nat → Int64) (H : Heap) (locs : List Loc) (ls : Array Slot), Inv tw S tw' S' → va_P D gCl (wL D ad am ao rf w0 t0 tw S rdv tw' S' ov) H → va_D A (wL D ad am ao rf w0 t0 tw S rdv tw' S' ov) → va_S A s.heap H locs → lv_has ls 7 (lL b ad am ao x4) → W p l e room_1 s m args below meth c H locs (cells + 4644) (slots + 27909) Q (F0 m 2315 ls [])) :
    W p l e room_1 s m args below meth c H locs cells slots Q (F0 m 832 ls []) := by
  obtain ⟨r, C2, M2, g1, g2, g3⟩ := hO tw S tw' S' hI
  refine lv_aload_n hC.x hC.b dL_law_832 rfl (lv_at hl 3 rfl) ?_
  refine lv_aload_n hC.x hC.b dL_law_833 rfl (lv_at hl 4 rfl) ?_
  refine lv_iload hC.x hC.b dL_law_834 (lv_at hl 0 rfl) ?_
  refine lv_iconst (v := 1) hC.x hC.b dL_law_836 (by decide) ?_
  refine lv_iadd hC.x hC.b dL_law_837 ?_
  refine va_sld hC.x hC.b hX hbl hbA hS h1 dL_law_838 ?_
  refine fg_i hC (fr_V (rest := []) (As := [.int (xs (x4 + 1).toNatClampNeg)]) hC (m1_round l g1) vL_1_round h1_round 0 0 gCl_X1 rfl rfl ⟨rfl, rfl, Nat.le_of_ble_eq_true rfl, Nat.le_of_ble_eq_true rfl⟩ ⟨by show _ ≤ 1200128; omega, by show _ ≤ 5501098; omega⟩ hP hD hl.1 (Nat.le_of_ble_eq_true rfl) dL_law_839 rfl) hP hD hS (fun r1 u1 H locs f1 hP hD hS => ?_)
  have hP := w3_P hP
  have hD := w3_D hD
  refine lv_aload_n hC.x hC.b dL_law_842 rfl (lv_at hl 2 rfl) ?_
  refine lv_aload_n hC.x hC.b dL_law_843 rfl (lv_at hl 4 rfl) ?_
  refine lv_iload hC.x hC.b dL_law_844 (lv_at hl 0 rfl) ?_
  refine lv_iconst (v := 1) hC.x hC.b dL_law_846 (by decide) ?_
  refine lv_iadd hC.x hC.b dL_law_847 ?_
  refine va_sld hC.x hC.b hX hbl hbA hS h1 dL_law_848 ?_
  refine fg_i hC (fr_V (rest := [.int r1]) (As := [.int (xs (x4 + 1).toNatClampNeg)]) hC (m6_round l g2) vL_6_round h6_round 0 5 gCl_X6 rfl rfl ⟨rfl, rfl, Nat.le_of_ble_eq_true rfl, Nat.le_of_ble_eq_true rfl⟩ ⟨by show _ ≤ 1200128; omega, by show _ ≤ 5501098; omega⟩ hP hD hl.1 (Nat.le_of_ble_eq_true rfl) dL_law_849 rfl) hP hD hS (fun r2 u2 H locs f2 hP hD hS => ?_)
  have hP := w3_P (w3_P hP)
  have hD := w3_D (w3_D hD)
  obtain ⟨rfl, f1⟩ := f1
  obtain ⟨rfl, f2⟩ := f2
  refine lv_icmp_eq (tgt := 2315) hC.x hC.b dL_law_852 (by decide) (fun _ => ?_) (fun c => absurd rfl c)
  refine W.widen (k := cells + 4644) (n := slots + 27909) (by omega) (by omega) ?_
  exact next _ _ _ _ _ _ _ _ _ _ ls (g3 _ _ f1 f2) hP hD hS hl
theorem vL_1_bestNight : GoodIn lw_all (wsV RX0 91 RX1 yX1_bestNight (ws_ yX1_bestNight cX1_bestNight 3 (some .int))) := lw_V q1055 q1056 q1057 q118 q1058
theorem vL_6_bestNight : GoodIn lw_all (wsV RX0 94 RX6 yX6_bestNight (ws_ yX6_bestNight cX6_bestNight 5 (some .int))) := lw_V q1898 q1899 q1900 q126 q1901
abbrev Ob_bestNight (Inv : Option TD → CS → Option (Nat → Nat) → MS → Prop) : Prop := ObI Inv (fun post tw S => w1_bestNight post tw S) (fun post tw S => w6_bestNight post tw S)
set_option maxHeartbeats 4000000 in
theorem lc_17 {Inv : Option TD → CS → Option (Nat → Nat) → MS → Prop} {w0 t0 : Option Nat} {tw : Option TD} {S : CS} {rdv : Option Nat} {tw' : Option (Nat → Nat)} {S' : MS} {ov : Nat → Int64} (hC : CX RX0 cL_law 7 (some .boolean) D gCl nwG Z Hb A p s m args meth c) (hX : va_X b L xs s s.heap) (hbl : b < s.heap.size) (hbA : ¬ A b) (h1 : vp_in (x4 + 1) L) (h2 : vp_in (x4 + 2) L) (h3 : vp_in (x4 + 3) L) (h4 : vp_in (x4 + 4) L) (h5 : vp_in (x4 + 5) L) (hcl : cells + 4644 ≤ 1200128) (hsl : slots + 27909 ≤ 5501098)
    (hO : Ob_bestNight Inv) (hI : Inv tw S tw' S') (hP : va_P D gCl (wL D ad am ao rf w0 t0 tw S rdv tw' S' ov) H) (hD : va_D A (wL D ad am ao rf w0 t0 tw S rdv tw' S' ov)) (hS : va_S A s.heap H locs) (hl : lv_has ls 7 (lL b ad am ao x4))
    (next : ∀ (w0 t0 : Option Nat) (tw : Option TD) (S : CS) (rdv : Option Nat) (tw' : Option (Nat → Nat)) (S' : MS) (ov : Nat → Int64) (H : Heap) (locs : List Loc) (ls : Array Slot), Inv tw S tw' S' → va_P D gCl (wL D ad am ao rf w0 t0 tw S rdv tw' S' ov) H → va_D A (wL D ad am ao rf w0 t0 tw S rdv tw' S' ov) → va_S A s.heap H locs → lv_has ls 7 (lL b ad am ao x4) → W p l e room_1 s m args below meth c H locs (cells + 4644) (slots + 27909) Q (F0 m 2315 ls [])) :
    W p l e room_1 s m args below meth c H locs cells slots Q (F0 m 857 ls []) := by
  obtain ⟨r, C2, M2, g1, g2, g3⟩ := hO tw S tw' S' hI
  refine lv_aload_n hC.x hC.b dL_law_857 rfl (lv_at hl 3 rfl) ?_
  refine fg_i hC (fr_V (rest := []) (As := []) hC (m1_bestNight l g1) vL_1_bestNight h1_bestNight 0 0 gCl_X1 rfl rfl ⟨rfl, rfl, Nat.le_of_ble_eq_true rfl, Nat.le_of_ble_eq_true rfl⟩ ⟨by show _ ≤ 1200128; omega, by show _ ≤ 5501098; omega⟩ hP hD hl.1 (Nat.le_of_ble_eq_true rfl) dL_law_858 rfl) hP hD hS (fun r1 u1 H locs f1 hP hD hS => ?_)
  have hP := w3_P hP
  have hD := w3_D hD
  refine lv_aload_n hC.x hC.b dL_law_861 rfl (lv_at hl 2 rfl) ?_
  refine fg_i hC (fr_V (rest := [.int r1]) (As := []) hC (m6_bestNight l g2) vL_6_bestNight h6_bestNight 0 5 gCl_X6 rfl rfl ⟨rfl, rfl, Nat.le_of_ble_eq_true rfl, Nat.le_of_ble_eq_true rfl⟩ ⟨by show _ ≤ 1200128; omega, by show _ ≤ 5501098; omega⟩ hP hD hl.1 (Nat.le_of_ble_eq_true rfl) dL_law_862 rfl) hP hD hS (fun r2 u2 H locs f2 hP hD hS => ?_)
  have hP := w3_P (w3_P hP)
  have hD := w3_D (w3_D hD)
  obtain ⟨rfl, f1⟩ := f1
  obtain ⟨rfl, f2⟩ := f2
  refine lv_icmp_eq (tgt := 2315) hC.x hC.b dL_law_865 (by decide) (fun _ => ?_) (fun c => absurd rfl c)
  refine W.widen (k := cells + 4644) (n := slots + 27909) (by omega) (by omega) ?_
  exact next _ _ _ _ _ _ _ _ _ _ ls (g3 _ _ f1 f2) hP hD hS hl
theorem vL_1_perfect : GoodIn lw_all (wsV RX0 95 RX1 yX1_perfect (ws_ yX1_perfect cX1_perfect 3 (some .int))) := lw_V q1059 q1060 q1061 q118 q1062
theorem vL_6_perfect : GoodIn lw_all (wsV RX0 98 RX6 yX6_perfect (ws_ yX6_perfect cX6_perfect 3 (some .int))) := lw_V q1902 q1903 q1904 q126 q1905
abbrev Ob_perfect (Inv : Option TD → CS → Option (Nat → Nat) → MS → Prop) : Prop := ObI Inv (fun post tw S => w1_perfect post tw S) (fun post tw S => w6_perfect post tw S)
set_option maxHeartbeats 4000000 in
theorem lc_18 {Inv : Option TD → CS → Option (Nat → Nat) → MS → Prop} {w0 t0 : Option Nat} {tw : Option TD} {S : CS} {rdv : Option Nat} {tw' : Option (Nat → Nat)} {S' : MS} {ov : Nat → Int64} (hC : CX RX0 cL_law 7 (some .boolean) D gCl nwG Z Hb A p s m args meth c) (hX : va_X b L xs s s.heap) (hbl : b < s.heap.size) (hbA : ¬ A b) (h1 : vp_in (x4 + 1) L) (h2 : vp_in (x4 + 2) L) (h3 : vp_in (x4 + 3) L) (h4 : vp_in (x4 + 4) L) (h5 : vp_in (x4 + 5) L) (hcl : cells + 4644 ≤ 1200128) (hsl : slots + 27909 ≤ 5501098)
    (hO : Ob_perfect Inv) (hI : Inv tw S tw' S') (hP : va_P D gCl (wL D ad am ao rf w0 t0 tw S rdv tw' S' ov) H) (hD : va_D A (wL D ad am ao rf w0 t0 tw S rdv tw' S' ov)) (hS : va_S A s.heap H locs) (hl : lv_has ls 7 (lL b ad am ao x4))
    (next : ∀ (w0 t0 : Option Nat) (tw : Option TD) (S : CS) (rdv : Option Nat) (tw' : Option (Nat → Nat)) (S' : MS) (ov : Nat → Int64) (H : Heap) (locs : List Loc) (ls : Array Slot), Inv tw S tw' S' → va_P D gCl (wL D ad am ao rf w0 t0 tw S rdv tw' S' ov) H → va_D A (wL D ad am ao rf w0 t0 tw S rdv tw' S' ov) → va_S A s.heap H locs → lv_has ls 7 (lL b ad am ao x4) → W p l e room_1 s m args below meth c H locs (cells + 4644) (slots + 27909) Q (F0 m 2315 ls [])) :
    W p l e room_1 s m args below meth c H locs cells slots Q (F0 m 870 ls []) := by
  obtain ⟨r, C2, M2, g1, g2, g3⟩ := hO tw S tw' S' hI
  refine lv_aload_n hC.x hC.b dL_law_870 rfl (lv_at hl 3 rfl) ?_
  refine fg_i hC (fr_V (rest := []) (As := []) hC (m1_perfect l g1) vL_1_perfect h1_perfect 0 0 gCl_X1 rfl rfl ⟨rfl, rfl, Nat.le_of_ble_eq_true rfl, Nat.le_of_ble_eq_true rfl⟩ ⟨by show _ ≤ 1200128; omega, by show _ ≤ 5501098; omega⟩ hP hD hl.1 (Nat.le_of_ble_eq_true rfl) dL_law_871 rfl) hP hD hS (fun r1 u1 H locs f1 hP hD hS => ?_)
  have hP := w3_P hP
  have hD := w3_D hD
  refine lv_aload_n hC.x hC.b dL_law_874 rfl (lv_at hl 2 rfl) ?_
  refine fg_i hC (fr_V (rest := [.int r1]) (As := []) hC (m6_perfect l g2) vL_6_perfect h6_perfect 0 5 gCl_X6 rfl rfl ⟨rfl, rfl, Nat.le_of_ble_eq_true rfl, Nat.le_of_ble_eq_true rfl⟩ ⟨by show _ ≤ 1200128; omega, by show _ ≤ 5501098; omega⟩ hP hD hl.1 (Nat.le_of_ble_eq_true rfl) dL_law_875 rfl) hP hD hS (fun r2 u2 H locs f2 hP hD hS => ?_)
  have hP := w3_P (w3_P hP)
  have hD := w3_D (w3_D hD)
  obtain ⟨rfl, f1⟩ := f1
  obtain ⟨rfl, f2⟩ := f2
  refine lv_icmp_eq (tgt := 2315) hC.x hC.b dL_law_878 (by decide) (fun _ => ?_) (fun c => absurd rfl c)
  refine W.widen (k := cells + 4644) (n := slots + 27909) (by omega) (by omega) ?_
  exact next _ _ _ _ _ _ _ _ _ _ ls (g3 _ _ f1 f2) hP hD hS hl
theorem vL_1_together : GoodIn lw_all (wsV RX0 99 RX1 yX1_together (ws_ yX1_together cX1_together 4 (some .int))) := lw_V q1063 q1064 q1065 q118 q1066
theorem vL_6_together : GoodIn lw_all (wsV RX0 102 RX6 yX6_together (ws_ yX6_together cX6_together 4 (some .int))) := lw_V q1906 q1907 q1908 q126 q1909
abbrev Ob_together (Inv : Option TD → CS → Option (Nat → Nat) → MS → Prop) (a0 a1 : Int32) : Prop := ObI Inv (fun post tw S => w1_together post tw S a0 a1) (fun post tw S => w6_together post tw S a0 a1)
set_option maxHeartbeats 4000000 in
theorem lc_19 {Inv : Option TD → CS → Option (Nat → Nat) → MS → Prop} {w0 t0 : Option Nat} {tw : Option TD} {S : CS} {rdv : Option Nat} {tw' : Option (Nat → Nat)} {S' : MS} {ov : Nat → Int64} (hC : CX RX0 cL_law 7 (some .boolean) D gCl nwG Z Hb A p s m args meth c) (hX : va_X b L xs s s.heap) (hbl : b < s.heap.size) (hbA : ¬ A b) (h1 : vp_in (x4 + 1) L) (h2 : vp_in (x4 + 2) L) (h3 : vp_in (x4 + 3) L) (h4 : vp_in (x4 + 4) L) (h5 : vp_in (x4 + 5) L) (hcl : cells + 4644 ≤ 1200128) (hsl : slots + 27909 ≤ 5501098)
    (hO : Ob_together Inv (xs (x4 + 1).toNatClampNeg) (xs (x4 + 2).toNatClampNeg)) (hI : Inv tw S tw' S') (hP : va_P D gCl (wL D ad am ao rf w0 t0 tw S rdv tw' S' ov) H) (hD : va_D A (wL D ad am ao rf w0 t0 tw S rdv tw' S' ov)) (hS : va_S A s.heap H locs) (hl : lv_has ls 7 (lL b ad am ao x4))
    (next : ∀ (w0 t0 : Option Nat) (tw : Option TD) (S : CS) (rdv : Option Nat) (tw' : Option (Nat → Nat)) (S' : MS) (ov : Nat → Int64) (H : Heap) (locs : List Loc) (ls : Array Slot), Inv tw S tw' S' → va_P D gCl (wL D ad am ao rf w0 t0 tw S rdv tw' S' ov) H → va_D A (wL D ad am ao rf w0 t0 tw S rdv tw' S' ov) → va_S A s.heap H locs → lv_has ls 7 (lL b ad am ao x4) → W p l e room_1 s m args below meth c H locs (cells + 4644) (slots + 27909) Q (F0 m 2315 ls [])) :
    W p l e room_1 s m args below meth c H locs cells slots Q (F0 m 883 ls []) := by
  obtain ⟨r, C2, M2, g1, g2, g3⟩ := hO tw S tw' S' hI
  refine lv_aload_n hC.x hC.b dL_law_883 rfl (lv_at hl 3 rfl) ?_
  refine lv_aload_n hC.x hC.b dL_law_884 rfl (lv_at hl 4 rfl) ?_
  refine lv_iload hC.x hC.b dL_law_885 (lv_at hl 0 rfl) ?_
  refine lv_iconst (v := 1) hC.x hC.b dL_law_887 (by decide) ?_
  refine lv_iadd hC.x hC.b dL_law_888 ?_
  refine va_sld hC.x hC.b hX hbl hbA hS h1 dL_law_889 ?_
  refine lv_aload_n hC.x hC.b dL_law_890 rfl (lv_at hl 4 rfl) ?_
  refine lv_iload hC.x hC.b dL_law_891 (lv_at hl 0 rfl) ?_
  refine lv_iconst (v := 2) hC.x hC.b dL_law_893 (by decide) ?_
  refine lv_iadd hC.x hC.b dL_law_894 ?_
  refine va_sld hC.x hC.b hX hbl hbA hS h2 dL_law_895 ?_
  refine fg_i hC (fr_V (rest := []) (As := [.int (xs (x4 + 1).toNatClampNeg), .int (xs (x4 + 2).toNatClampNeg)]) hC (m1_together l g1) vL_1_together h1_together 0 0 gCl_X1 rfl rfl ⟨rfl, rfl, Nat.le_of_ble_eq_true rfl, Nat.le_of_ble_eq_true rfl⟩ ⟨by show _ ≤ 1200128; omega, by show _ ≤ 5501098; omega⟩ hP hD hl.1 (Nat.le_of_ble_eq_true rfl) dL_law_896 rfl) hP hD hS (fun r1 u1 H locs f1 hP hD hS => ?_)
  have hP := w3_P hP
  have hD := w3_D hD
  refine lv_aload_n hC.x hC.b dL_law_899 rfl (lv_at hl 2 rfl) ?_
  refine lv_aload_n hC.x hC.b dL_law_900 rfl (lv_at hl 4 rfl) ?_
  refine lv_iload hC.x hC.b dL_law_901 (lv_at hl 0 rfl) ?_
  refine lv_iconst (v := 1) hC.x hC.b dL_law_903 (by decide) ?_
  refine lv_iadd hC.x hC.b dL_law_904 ?_
  refine va_sld hC.x hC.b hX hbl hbA hS h1 dL_law_905 ?_
  refine lv_aload_n hC.x hC.b dL_law_906 rfl (lv_at hl 4 rfl) ?_
  refine lv_iload hC.x hC.b dL_law_907 (lv_at hl 0 rfl) ?_
  refine lv_iconst (v := 2) hC.x hC.b dL_law_909 (by decide) ?_
  refine lv_iadd hC.x hC.b dL_law_910 ?_
  refine va_sld hC.x hC.b hX hbl hbA hS h2 dL_law_911 ?_
  refine fg_i hC (fr_V (rest := [.int r1]) (As := [.int (xs (x4 + 1).toNatClampNeg), .int (xs (x4 + 2).toNatClampNeg)]) hC (m6_together l g2) vL_6_together h6_together 0 5 gCl_X6 rfl rfl ⟨rfl, rfl, Nat.le_of_ble_eq_true rfl, Nat.le_of_ble_eq_true rfl⟩ ⟨by show _ ≤ 1200128; omega, by show _ ≤ 5501098; omega⟩ hP hD hl.1 (Nat.le_of_ble_eq_true rfl) dL_law_912 rfl) hP hD hS (fun r2 u2 H locs f2 hP hD hS => ?_)
  have hP := w3_P (w3_P hP)
  have hD := w3_D (w3_D hD)
  obtain ⟨rfl, f1⟩ := f1
  obtain ⟨rfl, f2⟩ := f2
  refine lv_icmp_eq (tgt := 2315) hC.x hC.b dL_law_915 (by decide) (fun _ => ?_) (fun c => absurd rfl c)
  refine W.widen (k := cells + 4644) (n := slots + 27909) (by omega) (by omega) ?_
  exact next _ _ _ _ _ _ _ _ _ _ ls (g3 _ _ f1 f2) hP hD hS hl
theorem vL_1_aimFor : GoodIn lw_all (wsV RX0 103 RX1 yX1_aimFor (ws_ yX1_aimFor cX1_aimFor 6 (some .int))) := lw_V q1067 q1068 q1069 q118 q1070
theorem vL_6_aimFor : GoodIn lw_all (wsV RX0 106 RX6 yX6_aimFor (ws_ yX6_aimFor cX6_aimFor 6 (some .int))) := lw_V q1910 q1911 q1912 q126 q1913
abbrev Ob_aimFor (Inv : Option TD → CS → Option (Nat → Nat) → MS → Prop) (a0 a1 a2 : Int32) : Prop := ObI Inv (fun post tw S => w1_aimFor post tw S a0 a1 a2) (fun post tw S => w6_aimFor post tw S a0 a1 a2)
set_option maxHeartbeats 4000000 in
theorem lc_20 {Inv : Option TD → CS → Option (Nat → Nat) → MS → Prop} {w0 t0 : Option Nat} {tw : Option TD} {S : CS} {rdv : Option Nat} {tw' : Option (Nat → Nat)} {S' : MS} {ov : Nat → Int64} (hC : CX RX0 cL_law 7 (some .boolean) D gCl nwG Z Hb A p s m args meth c) (hX : va_X b L xs s s.heap) (hbl : b < s.heap.size) (hbA : ¬ A b) (h1 : vp_in (x4 + 1) L) (h2 : vp_in (x4 + 2) L) (h3 : vp_in (x4 + 3) L) (h4 : vp_in (x4 + 4) L) (h5 : vp_in (x4 + 5) L) (hcl : cells + 4644 ≤ 1200128) (hsl : slots + 27909 ≤ 5501098)
    (hO : Ob_aimFor Inv (xs (x4 + 1).toNatClampNeg) (xs (x4 + 2).toNatClampNeg) (xs (x4 + 3).toNatClampNeg)) (hI : Inv tw S tw' S') (hP : va_P D gCl (wL D ad am ao rf w0 t0 tw S rdv tw' S' ov) H) (hD : va_D A (wL D ad am ao rf w0 t0 tw S rdv tw' S' ov)) (hS : va_S A s.heap H locs) (hl : lv_has ls 7 (lL b ad am ao x4))
    (next : ∀ (w0 t0 : Option Nat) (tw : Option TD) (S : CS) (rdv : Option Nat) (tw' : Option (Nat → Nat)) (S' : MS) (ov : Nat → Int64) (H : Heap) (locs : List Loc) (ls : Array Slot), Inv tw S tw' S' → va_P D gCl (wL D ad am ao rf w0 t0 tw S rdv tw' S' ov) H → va_D A (wL D ad am ao rf w0 t0 tw S rdv tw' S' ov) → va_S A s.heap H locs → lv_has ls 7 (lL b ad am ao x4) → W p l e room_1 s m args below meth c H locs (cells + 4644) (slots + 27909) Q (F0 m 2315 ls [])) :
    W p l e room_1 s m args below meth c H locs cells slots Q (F0 m 920 ls []) := by
  obtain ⟨r, C2, M2, g1, g2, g3⟩ := hO tw S tw' S' hI
  refine lv_aload_n hC.x hC.b dL_law_920 rfl (lv_at hl 3 rfl) ?_
  refine lv_aload_n hC.x hC.b dL_law_921 rfl (lv_at hl 4 rfl) ?_
  refine lv_iload hC.x hC.b dL_law_922 (lv_at hl 0 rfl) ?_
  refine lv_iconst (v := 1) hC.x hC.b dL_law_924 (by decide) ?_
  refine lv_iadd hC.x hC.b dL_law_925 ?_
  refine va_sld hC.x hC.b hX hbl hbA hS h1 dL_law_926 ?_
  refine lv_aload_n hC.x hC.b dL_law_927 rfl (lv_at hl 4 rfl) ?_
  refine lv_iload hC.x hC.b dL_law_928 (lv_at hl 0 rfl) ?_
  refine lv_iconst (v := 2) hC.x hC.b dL_law_930 (by decide) ?_
  refine lv_iadd hC.x hC.b dL_law_931 ?_
  refine va_sld hC.x hC.b hX hbl hbA hS h2 dL_law_932 ?_
  refine lv_aload_n hC.x hC.b dL_law_933 rfl (lv_at hl 4 rfl) ?_
  refine lv_iload hC.x hC.b dL_law_934 (lv_at hl 0 rfl) ?_
  refine lv_iconst (v := 3) hC.x hC.b dL_law_936 (by decide) ?_
  refine lv_iadd hC.x hC.b dL_law_937 ?_
  refine va_sld hC.x hC.b hX hbl hbA hS h3 dL_law_938 ?_
  refine fg_i hC (fr_V (rest := []) (As := [.int (xs (x4 + 1).toNatClampNeg), .int (xs (x4 + 2).toNatClampNeg), .int (xs (x4 + 3).toNatClampNeg)]) hC (m1_aimFor l g1) vL_1_aimFor h1_aimFor 0 0 gCl_X1 rfl rfl ⟨rfl, rfl, Nat.le_of_ble_eq_true rfl, Nat.le_of_ble_eq_true rfl⟩ ⟨by show _ ≤ 1200128; omega, by show _ ≤ 5501098; omega⟩ hP hD hl.1 (Nat.le_of_ble_eq_true rfl) dL_law_939 rfl) hP hD hS (fun r1 u1 H locs f1 hP hD hS => ?_)
  have hP := w3_P hP
  have hD := w3_D hD
  refine lv_aload_n hC.x hC.b dL_law_942 rfl (lv_at hl 2 rfl) ?_
  refine lv_aload_n hC.x hC.b dL_law_943 rfl (lv_at hl 4 rfl) ?_
  refine lv_iload hC.x hC.b dL_law_944 (lv_at hl 0 rfl) ?_
  refine lv_iconst (v := 1) hC.x hC.b dL_law_946 (by decide) ?_
  refine lv_iadd hC.x hC.b dL_law_947 ?_
  refine va_sld hC.x hC.b hX hbl hbA hS h1 dL_law_948 ?_
  refine lv_aload_n hC.x hC.b dL_law_949 rfl (lv_at hl 4 rfl) ?_
  refine lv_iload hC.x hC.b dL_law_950 (lv_at hl 0 rfl) ?_
  refine lv_iconst (v := 2) hC.x hC.b dL_law_952 (by decide) ?_
  refine lv_iadd hC.x hC.b dL_law_953 ?_
  refine va_sld hC.x hC.b hX hbl hbA hS h2 dL_law_954 ?_
  refine lv_aload_n hC.x hC.b dL_law_955 rfl (lv_at hl 4 rfl) ?_
  refine lv_iload hC.x hC.b dL_law_956 (lv_at hl 0 rfl) ?_
  refine lv_iconst (v := 3) hC.x hC.b dL_law_958 (by decide) ?_
  refine lv_iadd hC.x hC.b dL_law_959 ?_
  refine va_sld hC.x hC.b hX hbl hbA hS h3 dL_law_960 ?_
  refine fg_i hC (fr_V (rest := [.int r1]) (As := [.int (xs (x4 + 1).toNatClampNeg), .int (xs (x4 + 2).toNatClampNeg), .int (xs (x4 + 3).toNatClampNeg)]) hC (m6_aimFor l g2) vL_6_aimFor h6_aimFor 0 5 gCl_X6 rfl rfl ⟨rfl, rfl, Nat.le_of_ble_eq_true rfl, Nat.le_of_ble_eq_true rfl⟩ ⟨by show _ ≤ 1200128; omega, by show _ ≤ 5501098; omega⟩ hP hD hl.1 (Nat.le_of_ble_eq_true rfl) dL_law_961 rfl) hP hD hS (fun r2 u2 H locs f2 hP hD hS => ?_)
  have hP := w3_P (w3_P hP)
  have hD := w3_D (w3_D hD)
  obtain ⟨rfl, f1⟩ := f1
  obtain ⟨rfl, f2⟩ := f2
  refine lv_icmp_eq (tgt := 2315) hC.x hC.b dL_law_964 (by decide) (fun _ => ?_) (fun c => absurd rfl c)
  refine W.widen (k := cells + 4644) (n := slots + 27909) (by omega) (by omega) ?_
  exact next _ _ _ _ _ _ _ _ _ _ ls (g3 _ _ f1 f2) hP hD hS hl
theorem vL_1_aims : GoodIn lw_all (wsV RX0 107 RX1 yX1_aims (ws_ yX1_aims cX1_aims 7 (some .int))) := lw_V q1076 q1077 q1078 q118 q1079
theorem vL_6_aims : GoodIn lw_all (wsV RX0 110 RX6 yX6_aims (ws_ yX6_aims cX6_aims 7 (some .int))) := lw_V q1914 q1915 q1916 q126 q1917
abbrev Ob_aims (Inv : Option TD → CS → Option (Nat → Nat) → MS → Prop) (a0 a1 a2 : Int32) : Prop := ObI Inv (fun post tw S => w1_aims post tw S a0 a1 a2) (fun post tw S => w6_aims post tw S a0 a1 a2)
set_option maxHeartbeats 4000000 in
theorem lc_21 {Inv : Option TD → CS → Option (Nat → Nat) → MS → Prop} {w0 t0 : Option Nat} {tw : Option TD} {S : CS} {rdv : Option Nat} {tw' : Option (Nat → Nat)} {S' : MS} {ov : Nat → Int64} (hC : CX RX0 cL_law 7 (some .boolean) D gCl nwG Z Hb A p s m args meth c) (hX : va_X b L xs s s.heap) (hbl : b < s.heap.size) (hbA : ¬ A b) (h1 : vp_in (x4 + 1) L) (h2 : vp_in (x4 + 2) L) (h3 : vp_in (x4 + 3) L) (h4 : vp_in (x4 + 4) L) (h5 : vp_in (x4 + 5) L) (hcl : cells + 4644 ≤ 1200128) (hsl : slots + 27909 ≤ 5501098)
    (hO : Ob_aims Inv (xs (x4 + 1).toNatClampNeg) (xs (x4 + 2).toNatClampNeg) (xs (x4 + 3).toNatClampNeg)) (hI : Inv tw S tw' S') (hP : va_P D gCl (wL D ad am ao rf w0 t0 tw S rdv tw' S' ov) H) (hD : va_D A (wL D ad am ao rf w0 t0 tw S rdv tw' S' ov)) (hS : va_S A s.heap H locs) (hl : lv_has ls 7 (lL b ad am ao x4))
    (next : ∀ (w0 t0 : Option Nat) (tw : Option TD) (S : CS) (rdv : Option Nat) (tw' : Option (Nat → Nat)) (S' : MS) (ov : Nat → Int64) (H : Heap) (locs : List Loc) (ls : Array Slot), Inv tw S tw' S' → va_P D gCl (wL D ad am ao rf w0 t0 tw S rdv tw' S' ov) H → va_D A (wL D ad am ao rf w0 t0 tw S rdv tw' S' ov) → va_S A s.heap H locs → lv_has ls 7 (lL b ad am ao x4) → W p l e room_1 s m args below meth c H locs (cells + 4644) (slots + 27909) Q (F0 m 2315 ls [])) :
    W p l e room_1 s m args below meth c H locs cells slots Q (F0 m 969 ls []) := by
  obtain ⟨r, C2, M2, g1, g2, g3⟩ := hO tw S tw' S' hI
  refine lv_aload_n hC.x hC.b dL_law_969 rfl (lv_at hl 3 rfl) ?_
  refine lv_aload_n hC.x hC.b dL_law_970 rfl (lv_at hl 4 rfl) ?_
  refine lv_iload hC.x hC.b dL_law_971 (lv_at hl 0 rfl) ?_
  refine lv_iconst (v := 1) hC.x hC.b dL_law_973 (by decide) ?_
  refine lv_iadd hC.x hC.b dL_law_974 ?_
  refine va_sld hC.x hC.b hX hbl hbA hS h1 dL_law_975 ?_
  refine lv_aload_n hC.x hC.b dL_law_976 rfl (lv_at hl 4 rfl) ?_
  refine lv_iload hC.x hC.b dL_law_977 (lv_at hl 0 rfl) ?_
  refine lv_iconst (v := 2) hC.x hC.b dL_law_979 (by decide) ?_
  refine lv_iadd hC.x hC.b dL_law_980 ?_
  refine va_sld hC.x hC.b hX hbl hbA hS h2 dL_law_981 ?_
  refine lv_aload_n hC.x hC.b dL_law_982 rfl (lv_at hl 4 rfl) ?_
  refine lv_iload hC.x hC.b dL_law_983 (lv_at hl 0 rfl) ?_
  refine lv_iconst (v := 3) hC.x hC.b dL_law_985 (by decide) ?_
  refine lv_iadd hC.x hC.b dL_law_986 ?_
  refine va_sld hC.x hC.b hX hbl hbA hS h3 dL_law_987 ?_
  refine fg_i hC (fr_V (rest := []) (As := [.int (xs (x4 + 1).toNatClampNeg), .int (xs (x4 + 2).toNatClampNeg), .int (xs (x4 + 3).toNatClampNeg)]) hC (m1_aims l g1) vL_1_aims h1_aims 0 0 gCl_X1 rfl rfl ⟨rfl, rfl, Nat.le_of_ble_eq_true rfl, Nat.le_of_ble_eq_true rfl⟩ ⟨by show _ ≤ 1200128; omega, by show _ ≤ 5501098; omega⟩ hP hD hl.1 (Nat.le_of_ble_eq_true rfl) dL_law_988 rfl) hP hD hS (fun r1 u1 H locs f1 hP hD hS => ?_)
  have hP := w3_P hP
  have hD := w3_D hD
  refine lv_aload_n hC.x hC.b dL_law_991 rfl (lv_at hl 2 rfl) ?_
  refine lv_aload_n hC.x hC.b dL_law_992 rfl (lv_at hl 4 rfl) ?_
  refine lv_iload hC.x hC.b dL_law_993 (lv_at hl 0 rfl) ?_
  refine lv_iconst (v := 1) hC.x hC.b dL_law_995 (by decide) ?_
  refine lv_iadd hC.x hC.b dL_law_996 ?_
  refine va_sld hC.x hC.b hX hbl hbA hS h1 dL_law_997 ?_
  refine lv_aload_n hC.x hC.b dL_law_998 rfl (lv_at hl 4 rfl) ?_
  refine lv_iload hC.x hC.b dL_law_999 (lv_at hl 0 rfl) ?_
  refine lv_iconst (v := 2) hC.x hC.b dL_law_1001 (by decide) ?_
  refine lv_iadd hC.x hC.b dL_law_1002 ?_
  refine va_sld hC.x hC.b hX hbl hbA hS h2 dL_law_1003 ?_
  refine lv_aload_n hC.x hC.b dL_law_1004 rfl (lv_at hl 4 rfl) ?_
  refine lv_iload hC.x hC.b dL_law_1005 (lv_at hl 0 rfl) ?_
  refine lv_iconst (v := 3) hC.x hC.b dL_law_1007 (by decide) ?_
  refine lv_iadd hC.x hC.b dL_law_1008 ?_
  refine va_sld hC.x hC.b hX hbl hbA hS h3 dL_law_1009 ?_
  refine fg_i hC (fr_V (rest := [.int r1]) (As := [.int (xs (x4 + 1).toNatClampNeg), .int (xs (x4 + 2).toNatClampNeg), .int (xs (x4 + 3).toNatClampNeg)]) hC (m6_aims l g2) vL_6_aims h6_aims 0 5 gCl_X6 rfl rfl ⟨rfl, rfl, Nat.le_of_ble_eq_true rfl, Nat.le_of_ble_eq_true rfl⟩ ⟨by show _ ≤ 1200128; omega, by show _ ≤ 5501098; omega⟩ hP hD hl.1 (Nat.le_of_ble_eq_true rfl) dL_law_1010 rfl) hP hD hS (fun r2 u2 H locs f2 hP hD hS => ?_)
  have hP := w3_P (w3_P hP)
  have hD := w3_D (w3_D hD)
  obtain ⟨rfl, f1⟩ := f1
  obtain ⟨rfl, f2⟩ := f2
  refine lv_icmp_eq (tgt := 2315) hC.x hC.b dL_law_1013 (by decide) (fun _ => ?_) (fun c => absurd rfl c)
  refine W.widen (k := cells + 4644) (n := slots + 27909) (by omega) (by omega) ?_
  exact next _ _ _ _ _ _ _ _ _ _ ls (g3 _ _ f1 f2) hP hD hS hl
theorem vL_1_mirrorFor : GoodIn lw_all (wsV RX0 111 RX1 yX1_mirrorFor (ws_ yX1_mirrorFor cX1_mirrorFor 5 (some .int))) := lw_V q1080 q1081 q1082 q118 q1083
theorem vL_6_mirrorFor : GoodIn lw_all (wsV RX0 114 RX6 yX6_mirrorFor (ws_ yX6_mirrorFor cX6_mirrorFor 5 (some .int))) := lw_V q1918 q1919 q1920 q126 q1921
abbrev Ob_mirrorFor (Inv : Option TD → CS → Option (Nat → Nat) → MS → Prop) (a0 a1 : Int32) : Prop := ObI Inv (fun post tw S => w1_mirrorFor post tw S a0 a1) (fun post tw S => w6_mirrorFor post tw S a0 a1)
set_option maxHeartbeats 4000000 in
theorem lc_22 {Inv : Option TD → CS → Option (Nat → Nat) → MS → Prop} {w0 t0 : Option Nat} {tw : Option TD} {S : CS} {rdv : Option Nat} {tw' : Option (Nat → Nat)} {S' : MS} {ov : Nat → Int64} (hC : CX RX0 cL_law 7 (some .boolean) D gCl nwG Z Hb A p s m args meth c) (hX : va_X b L xs s s.heap) (hbl : b < s.heap.size) (hbA : ¬ A b) (h1 : vp_in (x4 + 1) L) (h2 : vp_in (x4 + 2) L) (h3 : vp_in (x4 + 3) L) (h4 : vp_in (x4 + 4) L) (h5 : vp_in (x4 + 5) L) (hcl : cells + 4644 ≤ 1200128) (hsl : slots + 27909 ≤ 5501098)
    (hO : Ob_mirrorFor Inv (xs (x4 + 1).toNatClampNeg) (xs (x4 + 2).toNatClampNeg)) (hI : Inv tw S tw' S') (hP : va_P D gCl (wL D ad am ao rf w0 t0 tw S rdv tw' S' ov) H) (hD : va_D A (wL D ad am ao rf w0 t0 tw S rdv tw' S' ov)) (hS : va_S A s.heap H locs) (hl : lv_has ls 7 (lL b ad am ao x4))
    (next : ∀ (w0 t0 : Option Nat) (tw : Option TD) (S : CS) (rdv : Option Nat) (tw' : Option (Nat → Nat)) (S' : MS) (ov : Nat → Int64) (H : Heap) (locs : List Loc) (ls : Array Slot), Inv tw S tw' S' → va_P D gCl (wL D ad am ao rf w0 t0 tw S rdv tw' S' ov) H → va_D A (wL D ad am ao rf w0 t0 tw S rdv tw' S' ov) → va_S A s.heap H locs → lv_has ls 7 (lL b ad am ao x4) → W p l e room_1 s m args below meth c H locs (cells + 4644) (slots + 27909) Q (F0 m 2315 ls [])) :
    W p l e room_1 s m args below meth c H locs cells slots Q (F0 m 1018 ls []) := by
  obtain ⟨r, C2, M2, g1, g2, g3⟩ := hO tw S tw' S' hI
  refine lv_aload_n hC.x hC.b dL_law_1018 rfl (lv_at hl 3 rfl) ?_
  refine lv_aload_n hC.x hC.b dL_law_1019 rfl (lv_at hl 4 rfl) ?_
  refine lv_iload hC.x hC.b dL_law_1020 (lv_at hl 0 rfl) ?_
  refine lv_iconst (v := 1) hC.x hC.b dL_law_1022 (by decide) ?_
  refine lv_iadd hC.x hC.b dL_law_1023 ?_
  refine va_sld hC.x hC.b hX hbl hbA hS h1 dL_law_1024 ?_
  refine lv_aload_n hC.x hC.b dL_law_1025 rfl (lv_at hl 4 rfl) ?_
  refine lv_iload hC.x hC.b dL_law_1026 (lv_at hl 0 rfl) ?_
  refine lv_iconst (v := 2) hC.x hC.b dL_law_1028 (by decide) ?_
  refine lv_iadd hC.x hC.b dL_law_1029 ?_
  refine va_sld hC.x hC.b hX hbl hbA hS h2 dL_law_1030 ?_
  refine fg_i hC (fr_V (rest := []) (As := [.int (xs (x4 + 1).toNatClampNeg), .int (xs (x4 + 2).toNatClampNeg)]) hC (m1_mirrorFor l g1) vL_1_mirrorFor h1_mirrorFor 0 0 gCl_X1 rfl rfl ⟨rfl, rfl, Nat.le_of_ble_eq_true rfl, Nat.le_of_ble_eq_true rfl⟩ ⟨by show _ ≤ 1200128; omega, by show _ ≤ 5501098; omega⟩ hP hD hl.1 (Nat.le_of_ble_eq_true rfl) dL_law_1031 rfl) hP hD hS (fun r1 u1 H locs f1 hP hD hS => ?_)
  have hP := w3_P hP
  have hD := w3_D hD
  refine lv_aload_n hC.x hC.b dL_law_1034 rfl (lv_at hl 2 rfl) ?_
  refine lv_aload_n hC.x hC.b dL_law_1035 rfl (lv_at hl 4 rfl) ?_
  refine lv_iload hC.x hC.b dL_law_1036 (lv_at hl 0 rfl) ?_
  refine lv_iconst (v := 1) hC.x hC.b dL_law_1038 (by decide) ?_
  refine lv_iadd hC.x hC.b dL_law_1039 ?_
  refine va_sld hC.x hC.b hX hbl hbA hS h1 dL_law_1040 ?_
  refine lv_aload_n hC.x hC.b dL_law_1041 rfl (lv_at hl 4 rfl) ?_
  refine lv_iload hC.x hC.b dL_law_1042 (lv_at hl 0 rfl) ?_
  refine lv_iconst (v := 2) hC.x hC.b dL_law_1044 (by decide) ?_
  refine lv_iadd hC.x hC.b dL_law_1045 ?_
  refine va_sld hC.x hC.b hX hbl hbA hS h2 dL_law_1046 ?_
  refine fg_i hC (fr_V (rest := [.int r1]) (As := [.int (xs (x4 + 1).toNatClampNeg), .int (xs (x4 + 2).toNatClampNeg)]) hC (m6_mirrorFor l g2) vL_6_mirrorFor h6_mirrorFor 0 5 gCl_X6 rfl rfl ⟨rfl, rfl, Nat.le_of_ble_eq_true rfl, Nat.le_of_ble_eq_true rfl⟩ ⟨by show _ ≤ 1200128; omega, by show _ ≤ 5501098; omega⟩ hP hD hl.1 (Nat.le_of_ble_eq_true rfl) dL_law_1047 rfl) hP hD hS (fun r2 u2 H locs f2 hP hD hS => ?_)
  have hP := w3_P (w3_P hP)
  have hD := w3_D (w3_D hD)
  obtain ⟨rfl, f1⟩ := f1
  obtain ⟨rfl, f2⟩ := f2
  refine lv_icmp_eq (tgt := 2315) hC.x hC.b dL_law_1050 (by decide) (fun _ => ?_) (fun c => absurd rfl c)
  refine W.widen (k := cells + 4644) (n := slots + 27909) (by omega) (by omega) ?_
  exact next _ _ _ _ _ _ _ _ _ _ ls (g3 _ _ f1 f2) hP hD hS hl
theorem vL_1_mirrorBest : GoodIn lw_all (wsV RX0 115 RX1 yX1_mirrorBest (ws_ yX1_mirrorBest cX1_mirrorBest 4 (some .int))) := lw_V q1095 q1096 q1097 q118 q1098
theorem vL_6_mirrorBest : GoodIn lw_all (wsV RX0 118 RX6 yX6_mirrorBest (ws_ yX6_mirrorBest cX6_mirrorBest 7 (some .int))) := lw_V q1922 q1923 q1924 q126 q1925
abbrev Ob_mirrorBest (Inv : Option TD → CS → Option (Nat → Nat) → MS → Prop) (a0 : Int32) : Prop := ObI Inv (fun post tw S => w1_mirrorBest post tw S a0) (fun post tw S => w6_mirrorBest post tw S a0)
set_option maxHeartbeats 4000000 in
theorem lc_23 {Inv : Option TD → CS → Option (Nat → Nat) → MS → Prop} {w0 t0 : Option Nat} {tw : Option TD} {S : CS} {rdv : Option Nat} {tw' : Option (Nat → Nat)} {S' : MS} {ov : Nat → Int64} (hC : CX RX0 cL_law 7 (some .boolean) D gCl nwG Z Hb A p s m args meth c) (hX : va_X b L xs s s.heap) (hbl : b < s.heap.size) (hbA : ¬ A b) (h1 : vp_in (x4 + 1) L) (h2 : vp_in (x4 + 2) L) (h3 : vp_in (x4 + 3) L) (h4 : vp_in (x4 + 4) L) (h5 : vp_in (x4 + 5) L) (hcl : cells + 4644 ≤ 1200128) (hsl : slots + 27909 ≤ 5501098)
    (hO : Ob_mirrorBest Inv (xs (x4 + 1).toNatClampNeg)) (hI : Inv tw S tw' S') (hP : va_P D gCl (wL D ad am ao rf w0 t0 tw S rdv tw' S' ov) H) (hD : va_D A (wL D ad am ao rf w0 t0 tw S rdv tw' S' ov)) (hS : va_S A s.heap H locs) (hl : lv_has ls 7 (lL b ad am ao x4))
    (next : ∀ (w0 t0 : Option Nat) (tw : Option TD) (S : CS) (rdv : Option Nat) (tw' : Option (Nat → Nat)) (S' : MS) (ov : Nat → Int64) (H : Heap) (locs : List Loc) (ls : Array Slot), Inv tw S tw' S' → va_P D gCl (wL D ad am ao rf w0 t0 tw S rdv tw' S' ov) H → va_D A (wL D ad am ao rf w0 t0 tw S rdv tw' S' ov) → va_S A s.heap H locs → lv_has ls 7 (lL b ad am ao x4) → W p l e room_1 s m args below meth c H locs (cells + 4644) (slots + 27909) Q (F0 m 2315 ls [])) :
    W p l e room_1 s m args below meth c H locs cells slots Q (F0 m 1055 ls []) := by
  obtain ⟨r, C2, M2, g1, g2, g3⟩ := hO tw S tw' S' hI
  refine lv_aload_n hC.x hC.b dL_law_1055 rfl (lv_at hl 3 rfl) ?_
  refine lv_aload_n hC.x hC.b dL_law_1056 rfl (lv_at hl 4 rfl) ?_
  refine lv_iload hC.x hC.b dL_law_1057 (lv_at hl 0 rfl) ?_
  refine lv_iconst (v := 1) hC.x hC.b dL_law_1059 (by decide) ?_
  refine lv_iadd hC.x hC.b dL_law_1060 ?_
  refine va_sld hC.x hC.b hX hbl hbA hS h1 dL_law_1061 ?_
  refine fg_i hC (fr_V (rest := []) (As := [.int (xs (x4 + 1).toNatClampNeg)]) hC (m1_mirrorBest l g1) vL_1_mirrorBest h1_mirrorBest 0 0 gCl_X1 rfl rfl ⟨rfl, rfl, Nat.le_of_ble_eq_true rfl, Nat.le_of_ble_eq_true rfl⟩ ⟨by show _ ≤ 1200128; omega, by show _ ≤ 5501098; omega⟩ hP hD hl.1 (Nat.le_of_ble_eq_true rfl) dL_law_1062 rfl) hP hD hS (fun r1 u1 H locs f1 hP hD hS => ?_)
  have hP := w3_P hP
  have hD := w3_D hD
  refine lv_aload_n hC.x hC.b dL_law_1065 rfl (lv_at hl 2 rfl) ?_
  refine lv_aload_n hC.x hC.b dL_law_1066 rfl (lv_at hl 4 rfl) ?_
  refine lv_iload hC.x hC.b dL_law_1067 (lv_at hl 0 rfl) ?_
  refine lv_iconst (v := 1) hC.x hC.b dL_law_1069 (by decide) ?_
  refine lv_iadd hC.x hC.b dL_law_1070 ?_
  refine va_sld hC.x hC.b hX hbl hbA hS h1 dL_law_1071 ?_
  refine fg_i hC (fr_V (rest := [.int r1]) (As := [.int (xs (x4 + 1).toNatClampNeg)]) hC (m6_mirrorBest l g2) vL_6_mirrorBest h6_mirrorBest 0 5 gCl_X6 rfl rfl ⟨rfl, rfl, Nat.le_of_ble_eq_true rfl, Nat.le_of_ble_eq_true rfl⟩ ⟨by show _ ≤ 1200128; omega, by show _ ≤ 5501098; omega⟩ hP hD hl.1 (Nat.le_of_ble_eq_true rfl) dL_law_1072 rfl) hP hD hS (fun r2 u2 H locs f2 hP hD hS => ?_)
  have hP := w3_P (w3_P hP)
  have hD := w3_D (w3_D hD)
  obtain ⟨rfl, f1⟩ := f1
  obtain ⟨rfl, f2⟩ := f2
  refine lv_icmp_eq (tgt := 2315) hC.x hC.b dL_law_1075 (by decide) (fun _ => ?_) (fun c => absurd rfl c)
  refine W.widen (k := cells + 4644) (n := slots + 27909) (by omega) (by omega) ?_
  exact next _ _ _ _ _ _ _ _ _ _ ls (g3 _ _ f1 f2) hP hD hS hl
theorem vL_1_slipFor : GoodIn lw_all (wsV RX0 119 RX1 yX1_slipFor (ws_ yX1_slipFor cX1_slipFor 5 (some .int))) := lw_V q1099 q1100 q1101 q118 q1102
theorem vL_6_slipFor : GoodIn lw_all (wsV RX0 122 RX6 yX6_slipFor (ws_ yX6_slipFor cX6_slipFor 5 (some .int))) := lw_V q1926 q1927 q1928 q126 q1929
abbrev Ob_slipFor (Inv : Option TD → CS → Option (Nat → Nat) → MS → Prop) (a0 a1 : Int32) : Prop := ObI Inv (fun post tw S => w1_slipFor post tw S a0 a1) (fun post tw S => w6_slipFor post tw S a0 a1)
set_option maxHeartbeats 4000000 in
theorem lc_24 {Inv : Option TD → CS → Option (Nat → Nat) → MS → Prop} {w0 t0 : Option Nat} {tw : Option TD} {S : CS} {rdv : Option Nat} {tw' : Option (Nat → Nat)} {S' : MS} {ov : Nat → Int64} (hC : CX RX0 cL_law 7 (some .boolean) D gCl nwG Z Hb A p s m args meth c) (hX : va_X b L xs s s.heap) (hbl : b < s.heap.size) (hbA : ¬ A b) (h1 : vp_in (x4 + 1) L) (h2 : vp_in (x4 + 2) L) (h3 : vp_in (x4 + 3) L) (h4 : vp_in (x4 + 4) L) (h5 : vp_in (x4 + 5) L) (hcl : cells + 4644 ≤ 1200128) (hsl : slots + 27909 ≤ 5501098)
    (hO : Ob_slipFor Inv (xs (x4 + 1).toNatClampNeg) (xs (x4 + 2).toNatClampNeg)) (hI : Inv tw S tw' S') (hP : va_P D gCl (wL D ad am ao rf w0 t0 tw S rdv tw' S' ov) H) (hD : va_D A (wL D ad am ao rf w0 t0 tw S rdv tw' S' ov)) (hS : va_S A s.heap H locs) (hl : lv_has ls 7 (lL b ad am ao x4))
    (next : ∀ (w0 t0 : Option Nat) (tw : Option TD) (S : CS) (rdv : Option Nat) (tw' : Option (Nat → Nat)) (S' : MS) (ov : Nat → Int64) (H : Heap) (locs : List Loc) (ls : Array Slot), Inv tw S tw' S' → va_P D gCl (wL D ad am ao rf w0 t0 tw S rdv tw' S' ov) H → va_D A (wL D ad am ao rf w0 t0 tw S rdv tw' S' ov) → va_S A s.heap H locs → lv_has ls 7 (lL b ad am ao x4) → W p l e room_1 s m args below meth c H locs (cells + 4644) (slots + 27909) Q (F0 m 2315 ls [])) :
    W p l e room_1 s m args below meth c H locs cells slots Q (F0 m 1080 ls []) := by
  obtain ⟨r, C2, M2, g1, g2, g3⟩ := hO tw S tw' S' hI
  refine lv_aload_n hC.x hC.b dL_law_1080 rfl (lv_at hl 3 rfl) ?_
  refine lv_aload_n hC.x hC.b dL_law_1081 rfl (lv_at hl 4 rfl) ?_
  refine lv_iload hC.x hC.b dL_law_1082 (lv_at hl 0 rfl) ?_
  refine lv_iconst (v := 1) hC.x hC.b dL_law_1084 (by decide) ?_
  refine lv_iadd hC.x hC.b dL_law_1085 ?_
  refine va_sld hC.x hC.b hX hbl hbA hS h1 dL_law_1086 ?_
  refine lv_aload_n hC.x hC.b dL_law_1087 rfl (lv_at hl 4 rfl) ?_
  refine lv_iload hC.x hC.b dL_law_1088 (lv_at hl 0 rfl) ?_
  refine lv_iconst (v := 2) hC.x hC.b dL_law_1090 (by decide) ?_
  refine lv_iadd hC.x hC.b dL_law_1091 ?_
  refine va_sld hC.x hC.b hX hbl hbA hS h2 dL_law_1092 ?_
  refine fg_i hC (fr_V (rest := []) (As := [.int (xs (x4 + 1).toNatClampNeg), .int (xs (x4 + 2).toNatClampNeg)]) hC (m1_slipFor l g1) vL_1_slipFor h1_slipFor 0 0 gCl_X1 rfl rfl ⟨rfl, rfl, Nat.le_of_ble_eq_true rfl, Nat.le_of_ble_eq_true rfl⟩ ⟨by show _ ≤ 1200128; omega, by show _ ≤ 5501098; omega⟩ hP hD hl.1 (Nat.le_of_ble_eq_true rfl) dL_law_1093 rfl) hP hD hS (fun r1 u1 H locs f1 hP hD hS => ?_)
  have hP := w3_P hP
  have hD := w3_D hD
  refine lv_aload_n hC.x hC.b dL_law_1096 rfl (lv_at hl 2 rfl) ?_
  refine lv_aload_n hC.x hC.b dL_law_1097 rfl (lv_at hl 4 rfl) ?_
  refine lv_iload hC.x hC.b dL_law_1098 (lv_at hl 0 rfl) ?_
  refine lv_iconst (v := 1) hC.x hC.b dL_law_1100 (by decide) ?_
  refine lv_iadd hC.x hC.b dL_law_1101 ?_
  refine va_sld hC.x hC.b hX hbl hbA hS h1 dL_law_1102 ?_
  refine lv_aload_n hC.x hC.b dL_law_1103 rfl (lv_at hl 4 rfl) ?_
  refine lv_iload hC.x hC.b dL_law_1104 (lv_at hl 0 rfl) ?_
  refine lv_iconst (v := 2) hC.x hC.b dL_law_1106 (by decide) ?_
  refine lv_iadd hC.x hC.b dL_law_1107 ?_
  refine va_sld hC.x hC.b hX hbl hbA hS h2 dL_law_1108 ?_
  refine fg_i hC (fr_V (rest := [.int r1]) (As := [.int (xs (x4 + 1).toNatClampNeg), .int (xs (x4 + 2).toNatClampNeg)]) hC (m6_slipFor l g2) vL_6_slipFor h6_slipFor 0 5 gCl_X6 rfl rfl ⟨rfl, rfl, Nat.le_of_ble_eq_true rfl, Nat.le_of_ble_eq_true rfl⟩ ⟨by show _ ≤ 1200128; omega, by show _ ≤ 5501098; omega⟩ hP hD hl.1 (Nat.le_of_ble_eq_true rfl) dL_law_1109 rfl) hP hD hS (fun r2 u2 H locs f2 hP hD hS => ?_)
  have hP := w3_P (w3_P hP)
  have hD := w3_D (w3_D hD)
  obtain ⟨rfl, f1⟩ := f1
  obtain ⟨rfl, f2⟩ := f2
  refine lv_icmp_eq (tgt := 2315) hC.x hC.b dL_law_1112 (by decide) (fun _ => ?_) (fun c => absurd rfl c)
  refine W.widen (k := cells + 4644) (n := slots + 27909) (by omega) (by omega) ?_
  exact next _ _ _ _ _ _ _ _ _ _ ls (g3 _ _ f1 f2) hP hD hS hl
theorem vL_1_seat : GoodIn lw_all (wsV RX0 123 RX1 yX1_seat (ws_ yX1_seat cX1_seat 3 (some .int))) := lw_V q1103 q1104 q1105 q118 q1106
theorem vL_6_seat : GoodIn lw_all (wsV RX0 126 RX6 yX6_seat (ws_ yX6_seat cX6_seat 3 (some .int))) := lw_V q1930 q1931 q1932 q126 q1933
abbrev Ob_seat (Inv : Option TD → CS → Option (Nat → Nat) → MS → Prop) (a0 : Int32) : Prop := ObI Inv (fun post tw S => w1_seat post tw S a0) (fun post tw S => w6_seat post tw S a0)
set_option maxHeartbeats 4000000 in
theorem lc_25 {Inv : Option TD → CS → Option (Nat → Nat) → MS → Prop} {w0 t0 : Option Nat} {tw : Option TD} {S : CS} {rdv : Option Nat} {tw' : Option (Nat → Nat)} {S' : MS} {ov : Nat → Int64} (hC : CX RX0 cL_law 7 (some .boolean) D gCl nwG Z Hb A p s m args meth c) (hX : va_X b L xs s s.heap) (hbl : b < s.heap.size) (hbA : ¬ A b) (h1 : vp_in (x4 + 1) L) (h2 : vp_in (x4 + 2) L) (h3 : vp_in (x4 + 3) L) (h4 : vp_in (x4 + 4) L) (h5 : vp_in (x4 + 5) L) (hcl : cells + 4644 ≤ 1200128) (hsl : slots + 27909 ≤ 5501098)
    (hO : Ob_seat Inv (xs (x4 + 1).toNatClampNeg)) (hI : Inv tw S tw' S') (hP : va_P D gCl (wL D ad am ao rf w0 t0 tw S rdv tw' S' ov) H) (hD : va_D A (wL D ad am ao rf w0 t0 tw S rdv tw' S' ov)) (hS : va_S A s.heap H locs) (hl : lv_has ls 7 (lL b ad am ao x4))
    (next : ∀ (w0 t0 : Option Nat) (tw : Option TD) (S : CS) (rdv : Option Nat) (tw' : Option (Nat → Nat)) (S' : MS) (ov : Nat → Int64) (H : Heap) (locs : List Loc) (ls : Array Slot), Inv tw S tw' S' → va_P D gCl (wL D ad am ao rf w0 t0 tw S rdv tw' S' ov) H → va_D A (wL D ad am ao rf w0 t0 tw S rdv tw' S' ov) → va_S A s.heap H locs → lv_has ls 7 (lL b ad am ao x4) → W p l e room_1 s m args below meth c H locs (cells + 4644) (slots + 27909) Q (F0 m 2315 ls [])) :
    W p l e room_1 s m args below meth c H locs cells slots Q (F0 m 1117 ls []) := by
  obtain ⟨r, C2, M2, g1, g2, g3⟩ := hO tw S tw' S' hI
  refine lv_aload_n hC.x hC.b dL_law_1117 rfl (lv_at hl 3 rfl) ?_
  refine lv_aload_n hC.x hC.b dL_law_1118 rfl (lv_at hl 4 rfl) ?_
  refine lv_iload hC.x hC.b dL_law_1119 (lv_at hl 0 rfl) ?_
  refine lv_iconst (v := 1) hC.x hC.b dL_law_1121 (by decide) ?_
  refine lv_iadd hC.x hC.b dL_law_1122 ?_
  refine va_sld hC.x hC.b hX hbl hbA hS h1 dL_law_1123 ?_
  refine fg_i hC (fr_V (rest := []) (As := [.int (xs (x4 + 1).toNatClampNeg)]) hC (m1_seat l g1) vL_1_seat h1_seat 0 0 gCl_X1 rfl rfl ⟨rfl, rfl, Nat.le_of_ble_eq_true rfl, Nat.le_of_ble_eq_true rfl⟩ ⟨by show _ ≤ 1200128; omega, by show _ ≤ 5501098; omega⟩ hP hD hl.1 (Nat.le_of_ble_eq_true rfl) dL_law_1124 rfl) hP hD hS (fun r1 u1 H locs f1 hP hD hS => ?_)
  have hP := w3_P hP
  have hD := w3_D hD
  refine lv_aload_n hC.x hC.b dL_law_1127 rfl (lv_at hl 2 rfl) ?_
  refine lv_aload_n hC.x hC.b dL_law_1128 rfl (lv_at hl 4 rfl) ?_
  refine lv_iload hC.x hC.b dL_law_1129 (lv_at hl 0 rfl) ?_
  refine lv_iconst (v := 1) hC.x hC.b dL_law_1131 (by decide) ?_
  refine lv_iadd hC.x hC.b dL_law_1132 ?_
  refine va_sld hC.x hC.b hX hbl hbA hS h1 dL_law_1133 ?_
  refine fg_i hC (fr_V (rest := [.int r1]) (As := [.int (xs (x4 + 1).toNatClampNeg)]) hC (m6_seat l g2) vL_6_seat h6_seat 0 5 gCl_X6 rfl rfl ⟨rfl, rfl, Nat.le_of_ble_eq_true rfl, Nat.le_of_ble_eq_true rfl⟩ ⟨by show _ ≤ 1200128; omega, by show _ ≤ 5501098; omega⟩ hP hD hl.1 (Nat.le_of_ble_eq_true rfl) dL_law_1134 rfl) hP hD hS (fun r2 u2 H locs f2 hP hD hS => ?_)
  have hP := w3_P (w3_P hP)
  have hD := w3_D (w3_D hD)
  obtain ⟨rfl, f1⟩ := f1
  obtain ⟨rfl, f2⟩ := f2
  refine lv_icmp_eq (tgt := 2315) hC.x hC.b dL_law_1137 (by decide) (fun _ => ?_) (fun c => absurd rfl c)
  refine W.widen (k := cells + 4644) (n := slots + 27909) (by omega) (by omega) ?_
  exact next _ _ _ _ _ _ _ _ _ _ ls (g3 _ _ f1 f2) hP hD hS hl
theorem vL_1_seatAt : GoodIn lw_all (wsV RX0 127 RX1 yX1_seatAt (ws_ yX1_seatAt cX1_seatAt 4 (some .int))) := lw_V q1119 q1120 q1121 q118 q1122
theorem vL_6_seatAt : GoodIn lw_all (wsV RX0 130 RX6 yX6_seatAt (ws_ yX6_seatAt cX6_seatAt 4 (some .int))) := lw_V q1946 q1947 q1948 q126 q1949
abbrev Ob_seatAt (Inv : Option TD → CS → Option (Nat → Nat) → MS → Prop) (a0 a1 : Int32) : Prop := ObI Inv (fun post tw S => w1_seatAt post tw S a0 a1) (fun post tw S => w6_seatAt post tw S a0 a1)
set_option maxHeartbeats 4000000 in
theorem lc_26 {Inv : Option TD → CS → Option (Nat → Nat) → MS → Prop} {w0 t0 : Option Nat} {tw : Option TD} {S : CS} {rdv : Option Nat} {tw' : Option (Nat → Nat)} {S' : MS} {ov : Nat → Int64} (hC : CX RX0 cL_law 7 (some .boolean) D gCl nwG Z Hb A p s m args meth c) (hX : va_X b L xs s s.heap) (hbl : b < s.heap.size) (hbA : ¬ A b) (h1 : vp_in (x4 + 1) L) (h2 : vp_in (x4 + 2) L) (h3 : vp_in (x4 + 3) L) (h4 : vp_in (x4 + 4) L) (h5 : vp_in (x4 + 5) L) (hcl : cells + 4644 ≤ 1200128) (hsl : slots + 27909 ≤ 5501098)
    (hO : Ob_seatAt Inv (xs (x4 + 1).toNatClampNeg) (xs (x4 + 2).toNatClampNeg)) (hI : Inv tw S tw' S') (hP : va_P D gCl (wL D ad am ao rf w0 t0 tw S rdv tw' S' ov) H) (hD : va_D A (wL D ad am ao rf w0 t0 tw S rdv tw' S' ov)) (hS : va_S A s.heap H locs) (hl : lv_has ls 7 (lL b ad am ao x4))
    (next : ∀ (w0 t0 : Option Nat) (tw : Option TD) (S : CS) (rdv : Option Nat) (tw' : Option (Nat → Nat)) (S' : MS) (ov : Nat → Int64) (H : Heap) (locs : List Loc) (ls : Array Slot), Inv tw S tw' S' → va_P D gCl (wL D ad am ao rf w0 t0 tw S rdv tw' S' ov) H → va_D A (wL D ad am ao rf w0 t0 tw S rdv tw' S' ov) → va_S A s.heap H locs → lv_has ls 7 (lL b ad am ao x4) → W p l e room_1 s m args below meth c H locs (cells + 4644) (slots + 27909) Q (F0 m 2315 ls [])) :
    W p l e room_1 s m args below meth c H locs cells slots Q (F0 m 1142 ls []) := by
  obtain ⟨r, C2, M2, g1, g2, g3⟩ := hO tw S tw' S' hI
  refine lv_aload_n hC.x hC.b dL_law_1142 rfl (lv_at hl 3 rfl) ?_
  refine lv_aload_n hC.x hC.b dL_law_1143 rfl (lv_at hl 4 rfl) ?_
  refine lv_iload hC.x hC.b dL_law_1144 (lv_at hl 0 rfl) ?_
  refine lv_iconst (v := 1) hC.x hC.b dL_law_1146 (by decide) ?_
  refine lv_iadd hC.x hC.b dL_law_1147 ?_
  refine va_sld hC.x hC.b hX hbl hbA hS h1 dL_law_1148 ?_
  refine lv_aload_n hC.x hC.b dL_law_1149 rfl (lv_at hl 4 rfl) ?_
  refine lv_iload hC.x hC.b dL_law_1150 (lv_at hl 0 rfl) ?_
  refine lv_iconst (v := 2) hC.x hC.b dL_law_1152 (by decide) ?_
  refine lv_iadd hC.x hC.b dL_law_1153 ?_
  refine va_sld hC.x hC.b hX hbl hbA hS h2 dL_law_1154 ?_
  refine fg_i hC (fr_V (rest := []) (As := [.int (xs (x4 + 1).toNatClampNeg), .int (xs (x4 + 2).toNatClampNeg)]) hC (m1_seatAt l g1) vL_1_seatAt h1_seatAt 0 0 gCl_X1 rfl rfl ⟨rfl, rfl, Nat.le_of_ble_eq_true rfl, Nat.le_of_ble_eq_true rfl⟩ ⟨by show _ ≤ 1200128; omega, by show _ ≤ 5501098; omega⟩ hP hD hl.1 (Nat.le_of_ble_eq_true rfl) dL_law_1155 rfl) hP hD hS (fun r1 u1 H locs f1 hP hD hS => ?_)
  have hP := w3_P hP
  have hD := w3_D hD
  refine lv_aload_n hC.x hC.b dL_law_1158 rfl (lv_at hl 2 rfl) ?_
  refine lv_aload_n hC.x hC.b dL_law_1159 rfl (lv_at hl 4 rfl) ?_
  refine lv_iload hC.x hC.b dL_law_1160 (lv_at hl 0 rfl) ?_
  refine lv_iconst (v := 1) hC.x hC.b dL_law_1162 (by decide) ?_
  refine lv_iadd hC.x hC.b dL_law_1163 ?_
  refine va_sld hC.x hC.b hX hbl hbA hS h1 dL_law_1164 ?_
  refine lv_aload_n hC.x hC.b dL_law_1165 rfl (lv_at hl 4 rfl) ?_
  refine lv_iload hC.x hC.b dL_law_1166 (lv_at hl 0 rfl) ?_
  refine lv_iconst (v := 2) hC.x hC.b dL_law_1168 (by decide) ?_
  refine lv_iadd hC.x hC.b dL_law_1169 ?_
  refine va_sld hC.x hC.b hX hbl hbA hS h2 dL_law_1170 ?_
  refine fg_i hC (fr_V (rest := [.int r1]) (As := [.int (xs (x4 + 1).toNatClampNeg), .int (xs (x4 + 2).toNatClampNeg)]) hC (m6_seatAt l g2) vL_6_seatAt h6_seatAt 0 5 gCl_X6 rfl rfl ⟨rfl, rfl, Nat.le_of_ble_eq_true rfl, Nat.le_of_ble_eq_true rfl⟩ ⟨by show _ ≤ 1200128; omega, by show _ ≤ 5501098; omega⟩ hP hD hl.1 (Nat.le_of_ble_eq_true rfl) dL_law_1171 rfl) hP hD hS (fun r2 u2 H locs f2 hP hD hS => ?_)
  have hP := w3_P (w3_P hP)
  have hD := w3_D (w3_D hD)
  obtain ⟨rfl, f1⟩ := f1
  obtain ⟨rfl, f2⟩ := f2
  refine lv_icmp_eq (tgt := 2315) hC.x hC.b dL_law_1174 (by decide) (fun _ => ?_) (fun c => absurd rfl c)
  refine W.widen (k := cells + 4644) (n := slots + 27909) (by omega) (by omega) ?_
  exact next _ _ _ _ _ _ _ _ _ _ ls (g3 _ _ f1 f2) hP hD hS hl
theorem vL_1_likes : GoodIn lw_all (wsV RX0 131 RX1 yX1_likes (ws_ yX1_likes cX1_likes 5 (some .int))) := lw_V q1123 q1124 q1125 q118 q1126
theorem vL_6_likes : GoodIn lw_all (wsV RX0 134 RX6 yX6_likes (ws_ yX6_likes cX6_likes 5 (some .int))) := lw_V q1950 q1951 q1952 q126 q1953
abbrev Ob_likes (Inv : Option TD → CS → Option (Nat → Nat) → MS → Prop) (a0 a1 a2 : Int32) : Prop := ObI Inv (fun post tw S => w1_likes post tw S a0 a1 a2) (fun post tw S => w6_likes post tw S a0 a1 a2)
set_option maxHeartbeats 4000000 in
theorem lc_27 {Inv : Option TD → CS → Option (Nat → Nat) → MS → Prop} {w0 t0 : Option Nat} {tw : Option TD} {S : CS} {rdv : Option Nat} {tw' : Option (Nat → Nat)} {S' : MS} {ov : Nat → Int64} (hC : CX RX0 cL_law 7 (some .boolean) D gCl nwG Z Hb A p s m args meth c) (hX : va_X b L xs s s.heap) (hbl : b < s.heap.size) (hbA : ¬ A b) (h1 : vp_in (x4 + 1) L) (h2 : vp_in (x4 + 2) L) (h3 : vp_in (x4 + 3) L) (h4 : vp_in (x4 + 4) L) (h5 : vp_in (x4 + 5) L) (hcl : cells + 4644 ≤ 1200128) (hsl : slots + 27909 ≤ 5501098)
    (hO : Ob_likes Inv (xs (x4 + 1).toNatClampNeg) (xs (x4 + 2).toNatClampNeg) (xs (x4 + 3).toNatClampNeg)) (hI : Inv tw S tw' S') (hP : va_P D gCl (wL D ad am ao rf w0 t0 tw S rdv tw' S' ov) H) (hD : va_D A (wL D ad am ao rf w0 t0 tw S rdv tw' S' ov)) (hS : va_S A s.heap H locs) (hl : lv_has ls 7 (lL b ad am ao x4))
    (next : ∀ (w0 t0 : Option Nat) (tw : Option TD) (S : CS) (rdv : Option Nat) (tw' : Option (Nat → Nat)) (S' : MS) (ov : Nat → Int64) (H : Heap) (locs : List Loc) (ls : Array Slot), Inv tw S tw' S' → va_P D gCl (wL D ad am ao rf w0 t0 tw S rdv tw' S' ov) H → va_D A (wL D ad am ao rf w0 t0 tw S rdv tw' S' ov) → va_S A s.heap H locs → lv_has ls 7 (lL b ad am ao x4) → W p l e room_1 s m args below meth c H locs (cells + 4644) (slots + 27909) Q (F0 m 2315 ls [])) :
    W p l e room_1 s m args below meth c H locs cells slots Q (F0 m 1179 ls []) := by
  obtain ⟨r, C2, M2, g1, g2, g3⟩ := hO tw S tw' S' hI
  refine lv_aload_n hC.x hC.b dL_law_1179 rfl (lv_at hl 3 rfl) ?_
  refine lv_aload_n hC.x hC.b dL_law_1180 rfl (lv_at hl 4 rfl) ?_
  refine lv_iload hC.x hC.b dL_law_1181 (lv_at hl 0 rfl) ?_
  refine lv_iconst (v := 1) hC.x hC.b dL_law_1183 (by decide) ?_
  refine lv_iadd hC.x hC.b dL_law_1184 ?_
  refine va_sld hC.x hC.b hX hbl hbA hS h1 dL_law_1185 ?_
  refine lv_aload_n hC.x hC.b dL_law_1186 rfl (lv_at hl 4 rfl) ?_
  refine lv_iload hC.x hC.b dL_law_1187 (lv_at hl 0 rfl) ?_
  refine lv_iconst (v := 2) hC.x hC.b dL_law_1189 (by decide) ?_
  refine lv_iadd hC.x hC.b dL_law_1190 ?_
  refine va_sld hC.x hC.b hX hbl hbA hS h2 dL_law_1191 ?_
  refine lv_aload_n hC.x hC.b dL_law_1192 rfl (lv_at hl 4 rfl) ?_
  refine lv_iload hC.x hC.b dL_law_1193 (lv_at hl 0 rfl) ?_
  refine lv_iconst (v := 3) hC.x hC.b dL_law_1195 (by decide) ?_
  refine lv_iadd hC.x hC.b dL_law_1196 ?_
  refine va_sld hC.x hC.b hX hbl hbA hS h3 dL_law_1197 ?_
  refine fg_i hC (fr_V (rest := []) (As := [.int (xs (x4 + 1).toNatClampNeg), .int (xs (x4 + 2).toNatClampNeg), .int (xs (x4 + 3).toNatClampNeg)]) hC (m1_likes l g1) vL_1_likes h1_likes 0 0 gCl_X1 rfl rfl ⟨rfl, rfl, Nat.le_of_ble_eq_true rfl, Nat.le_of_ble_eq_true rfl⟩ ⟨by show _ ≤ 1200128; omega, by show _ ≤ 5501098; omega⟩ hP hD hl.1 (Nat.le_of_ble_eq_true rfl) dL_law_1198 rfl) hP hD hS (fun r1 u1 H locs f1 hP hD hS => ?_)
  have hP := w3_P hP
  have hD := w3_D hD
  refine lv_aload_n hC.x hC.b dL_law_1201 rfl (lv_at hl 2 rfl) ?_
  refine lv_aload_n hC.x hC.b dL_law_1202 rfl (lv_at hl 4 rfl) ?_
  refine lv_iload hC.x hC.b dL_law_1203 (lv_at hl 0 rfl) ?_
  refine lv_iconst (v := 1) hC.x hC.b dL_law_1205 (by decide) ?_
  refine lv_iadd hC.x hC.b dL_law_1206 ?_
  refine va_sld hC.x hC.b hX hbl hbA hS h1 dL_law_1207 ?_
  refine lv_aload_n hC.x hC.b dL_law_1208 rfl (lv_at hl 4 rfl) ?_
  refine lv_iload hC.x hC.b dL_law_1209 (lv_at hl 0 rfl) ?_
  refine lv_iconst (v := 2) hC.x hC.b dL_law_1211 (by decide) ?_
  refine lv_iadd hC.x hC.b dL_law_1212 ?_
  refine va_sld hC.x hC.b hX hbl hbA hS h2 dL_law_1213 ?_
  refine lv_aload_n hC.x hC.b dL_law_1214 rfl (lv_at hl 4 rfl) ?_
  refine lv_iload hC.x hC.b dL_law_1215 (lv_at hl 0 rfl) ?_
  refine lv_iconst (v := 3) hC.x hC.b dL_law_1217 (by decide) ?_
  refine lv_iadd hC.x hC.b dL_law_1218 ?_
  refine va_sld hC.x hC.b hX hbl hbA hS h3 dL_law_1219 ?_
  refine fg_i hC (fr_V (rest := [.int r1]) (As := [.int (xs (x4 + 1).toNatClampNeg), .int (xs (x4 + 2).toNatClampNeg), .int (xs (x4 + 3).toNatClampNeg)]) hC (m6_likes l g2) vL_6_likes h6_likes 0 5 gCl_X6 rfl rfl ⟨rfl, rfl, Nat.le_of_ble_eq_true rfl, Nat.le_of_ble_eq_true rfl⟩ ⟨by show _ ≤ 1200128; omega, by show _ ≤ 5501098; omega⟩ hP hD hl.1 (Nat.le_of_ble_eq_true rfl) dL_law_1220 rfl) hP hD hS (fun r2 u2 H locs f2 hP hD hS => ?_)
  have hP := w3_P (w3_P hP)
  have hD := w3_D (w3_D hD)
  obtain ⟨rfl, f1⟩ := f1
  obtain ⟨rfl, f2⟩ := f2
  refine lv_icmp_eq (tgt := 2315) hC.x hC.b dL_law_1223 (by decide) (fun _ => ?_) (fun c => absurd rfl c)
  refine W.widen (k := cells + 4644) (n := slots + 27909) (by omega) (by omega) ?_
  exact next _ _ _ _ _ _ _ _ _ _ ls (g3 _ _ f1 f2) hP hD hS hl
theorem vL_1_restless : GoodIn lw_all (wsV RX0 135 RX1 yX1_restless (ws_ yX1_restless cX1_restless 6 (some .int))) := lw_V q1135 q1136 q1137 q118 q1138
theorem vL_6_restless : GoodIn lw_all (wsV RX0 138 RX6 yX6_restless (ws_ yX6_restless cX6_restless 6 (some .int))) := lw_V q1966 q1967 q1968 q126 q1969
abbrev Ob_restless (Inv : Option TD → CS → Option (Nat → Nat) → MS → Prop) (a0 : Int32) : Prop := ObI Inv (fun post tw S => w1_restless post tw S a0) (fun post tw S => w6_restless post tw S a0)
set_option maxHeartbeats 4000000 in
theorem lc_28 {Inv : Option TD → CS → Option (Nat → Nat) → MS → Prop} {w0 t0 : Option Nat} {tw : Option TD} {S : CS} {rdv : Option Nat} {tw' : Option (Nat → Nat)} {S' : MS} {ov : Nat → Int64} (hC : CX RX0 cL_law 7 (some .boolean) D gCl nwG Z Hb A p s m args meth c) (hX : va_X b L xs s s.heap) (hbl : b < s.heap.size) (hbA : ¬ A b) (h1 : vp_in (x4 + 1) L) (h2 : vp_in (x4 + 2) L) (h3 : vp_in (x4 + 3) L) (h4 : vp_in (x4 + 4) L) (h5 : vp_in (x4 + 5) L) (hcl : cells + 4644 ≤ 1200128) (hsl : slots + 27909 ≤ 5501098)
    (hO : Ob_restless Inv (xs (x4 + 1).toNatClampNeg)) (hI : Inv tw S tw' S') (hP : va_P D gCl (wL D ad am ao rf w0 t0 tw S rdv tw' S' ov) H) (hD : va_D A (wL D ad am ao rf w0 t0 tw S rdv tw' S' ov)) (hS : va_S A s.heap H locs) (hl : lv_has ls 7 (lL b ad am ao x4))
    (next : ∀ (w0 t0 : Option Nat) (tw : Option TD) (S : CS) (rdv : Option Nat) (tw' : Option (Nat → Nat)) (S' : MS) (ov : Nat → Int64) (H : Heap) (locs : List Loc) (ls : Array Slot), Inv tw S tw' S' → va_P D gCl (wL D ad am ao rf w0 t0 tw S rdv tw' S' ov) H → va_D A (wL D ad am ao rf w0 t0 tw S rdv tw' S' ov) → va_S A s.heap H locs → lv_has ls 7 (lL b ad am ao x4) → W p l e room_1 s m args below meth c H locs (cells + 4644) (slots + 27909) Q (F0 m 2315 ls [])) :
    W p l e room_1 s m args below meth c H locs cells slots Q (F0 m 1228 ls []) := by
  obtain ⟨r, C2, M2, g1, g2, g3⟩ := hO tw S tw' S' hI
  refine lv_aload_n hC.x hC.b dL_law_1228 rfl (lv_at hl 3 rfl) ?_
  refine lv_aload_n hC.x hC.b dL_law_1229 rfl (lv_at hl 4 rfl) ?_
  refine lv_iload hC.x hC.b dL_law_1230 (lv_at hl 0 rfl) ?_
  refine lv_iconst (v := 1) hC.x hC.b dL_law_1232 (by decide) ?_
  refine lv_iadd hC.x hC.b dL_law_1233 ?_
  refine va_sld hC.x hC.b hX hbl hbA hS h1 dL_law_1234 ?_
  refine fg_i hC (fr_V (rest := []) (As := [.int (xs (x4 + 1).toNatClampNeg)]) hC (m1_restless l g1) vL_1_restless h1_restless 0 0 gCl_X1 rfl rfl ⟨rfl, rfl, Nat.le_of_ble_eq_true rfl, Nat.le_of_ble_eq_true rfl⟩ ⟨by show _ ≤ 1200128; omega, by show _ ≤ 5501098; omega⟩ hP hD hl.1 (Nat.le_of_ble_eq_true rfl) dL_law_1235 rfl) hP hD hS (fun r1 u1 H locs f1 hP hD hS => ?_)
  have hP := w3_P hP
  have hD := w3_D hD
  refine lv_aload_n hC.x hC.b dL_law_1238 rfl (lv_at hl 2 rfl) ?_
  refine lv_aload_n hC.x hC.b dL_law_1239 rfl (lv_at hl 4 rfl) ?_
  refine lv_iload hC.x hC.b dL_law_1240 (lv_at hl 0 rfl) ?_
  refine lv_iconst (v := 1) hC.x hC.b dL_law_1242 (by decide) ?_
  refine lv_iadd hC.x hC.b dL_law_1243 ?_
  refine va_sld hC.x hC.b hX hbl hbA hS h1 dL_law_1244 ?_
  refine fg_i hC (fr_V (rest := [.int r1]) (As := [.int (xs (x4 + 1).toNatClampNeg)]) hC (m6_restless l g2) vL_6_restless h6_restless 0 5 gCl_X6 rfl rfl ⟨rfl, rfl, Nat.le_of_ble_eq_true rfl, Nat.le_of_ble_eq_true rfl⟩ ⟨by show _ ≤ 1200128; omega, by show _ ≤ 5501098; omega⟩ hP hD hl.1 (Nat.le_of_ble_eq_true rfl) dL_law_1245 rfl) hP hD hS (fun r2 u2 H locs f2 hP hD hS => ?_)
  have hP := w3_P (w3_P hP)
  have hD := w3_D (w3_D hD)
  obtain ⟨rfl, f1⟩ := f1
  obtain ⟨rfl, f2⟩ := f2
  refine lv_icmp_eq (tgt := 2315) hC.x hC.b dL_law_1248 (by decide) (fun _ => ?_) (fun c => absurd rfl c)
  refine W.widen (k := cells + 4644) (n := slots + 27909) (by omega) (by omega) ?_
  exact next _ _ _ _ _ _ _ _ _ _ ls (g3 _ _ f1 f2) hP hD hS hl
theorem vL_1_moveFor : GoodIn lw_all (wsV RX0 139 RX1 yX1_moveFor (ws_ yX1_moveFor cX1_moveFor 8 (some .int))) := lw_V q1139 q1140 q1141 q118 q1142
theorem vL_6_moveFor : GoodIn lw_all (wsV RX0 142 RX6 yX6_moveFor (ws_ yX6_moveFor cX6_moveFor 8 (some .int))) := lw_V q1970 q1971 q1972 q126 q1973
abbrev Ob_moveFor (Inv : Option TD → CS → Option (Nat → Nat) → MS → Prop) (a0 a1 : Int32) : Prop := ObI Inv (fun post tw S => w1_moveFor post tw S a0 a1) (fun post tw S => w6_moveFor post tw S a0 a1)
set_option maxHeartbeats 4000000 in
theorem lc_29 {Inv : Option TD → CS → Option (Nat → Nat) → MS → Prop} {w0 t0 : Option Nat} {tw : Option TD} {S : CS} {rdv : Option Nat} {tw' : Option (Nat → Nat)} {S' : MS} {ov : Nat → Int64} (hC : CX RX0 cL_law 7 (some .boolean) D gCl nwG Z Hb A p s m args meth c) (hX : va_X b L xs s s.heap) (hbl : b < s.heap.size) (hbA : ¬ A b) (h1 : vp_in (x4 + 1) L) (h2 : vp_in (x4 + 2) L) (h3 : vp_in (x4 + 3) L) (h4 : vp_in (x4 + 4) L) (h5 : vp_in (x4 + 5) L) (hcl : cells + 4644 ≤ 1200128) (hsl : slots + 27909 ≤ 5501098)
    (hO : Ob_moveFor Inv (xs (x4 + 1).toNatClampNeg) (xs (x4 + 2).toNatClampNeg)) (hI : Inv tw S tw' S') (hP : va_P D gCl (wL D ad am ao rf w0 t0 tw S rdv tw' S' ov) H) (hD : va_D A (wL D ad am ao rf w0 t0 tw S rdv tw' S' ov)) (hS : va_S A s.heap H locs) (hl : lv_has ls 7 (lL b ad am ao x4))
    (next : ∀ (w0 t0 : Option Nat) (tw : Option TD) (S : CS) (rdv : Option Nat) (tw' : Option (Nat → Nat)) (S' : MS) (ov : Nat → Int64) (H : Heap) (locs : List Loc) (ls : Array Slot), Inv tw S tw' S' → va_P D gCl (wL D ad am ao rf w0 t0 tw S rdv tw' S' ov) H → va_D A (wL D ad am ao rf w0 t0 tw S rdv tw' S' ov) → va_S A s.heap H locs → lv_has ls 7 (lL b ad am ao x4) → W p l e room_1 s m args below meth c H locs (cells + 4644) (slots + 27909) Q (F0 m 2315 ls [])) :
    W p l e room_1 s m args below meth c H locs cells slots Q (F0 m 1253 ls []) := by
  obtain ⟨r, C2, M2, g1, g2, g3⟩ := hO tw S tw' S' hI
  refine lv_aload_n hC.x hC.b dL_law_1253 rfl (lv_at hl 3 rfl) ?_
  refine lv_aload_n hC.x hC.b dL_law_1254 rfl (lv_at hl 4 rfl) ?_
  refine lv_iload hC.x hC.b dL_law_1255 (lv_at hl 0 rfl) ?_
  refine lv_iconst (v := 1) hC.x hC.b dL_law_1257 (by decide) ?_
  refine lv_iadd hC.x hC.b dL_law_1258 ?_
  refine va_sld hC.x hC.b hX hbl hbA hS h1 dL_law_1259 ?_
  refine lv_aload_n hC.x hC.b dL_law_1260 rfl (lv_at hl 4 rfl) ?_
  refine lv_iload hC.x hC.b dL_law_1261 (lv_at hl 0 rfl) ?_
  refine lv_iconst (v := 2) hC.x hC.b dL_law_1263 (by decide) ?_
  refine lv_iadd hC.x hC.b dL_law_1264 ?_
  refine va_sld hC.x hC.b hX hbl hbA hS h2 dL_law_1265 ?_
  refine fg_i hC (fr_V (rest := []) (As := [.int (xs (x4 + 1).toNatClampNeg), .int (xs (x4 + 2).toNatClampNeg)]) hC (m1_moveFor l g1) vL_1_moveFor h1_moveFor 0 0 gCl_X1 rfl rfl ⟨rfl, rfl, Nat.le_of_ble_eq_true rfl, Nat.le_of_ble_eq_true rfl⟩ ⟨by show _ ≤ 1200128; omega, by show _ ≤ 5501098; omega⟩ hP hD hl.1 (Nat.le_of_ble_eq_true rfl) dL_law_1266 rfl) hP hD hS (fun r1 u1 H locs f1 hP hD hS => ?_)
  have hP := w3_P hP
  have hD := w3_D hD
  refine lv_aload_n hC.x hC.b dL_law_1269 rfl (lv_at hl 2 rfl) ?_
  refine lv_aload_n hC.x hC.b dL_law_1270 rfl (lv_at hl 4 rfl) ?_
  refine lv_iload hC.x hC.b dL_law_1271 (lv_at hl 0 rfl) ?_
  refine lv_iconst (v := 1) hC.x hC.b dL_law_1273 (by decide) ?_
  refine lv_iadd hC.x hC.b dL_law_1274 ?_
  refine va_sld hC.x hC.b hX hbl hbA hS h1 dL_law_1275 ?_
  refine lv_aload_n hC.x hC.b dL_law_1276 rfl (lv_at hl 4 rfl) ?_
  refine lv_iload hC.x hC.b dL_law_1277 (lv_at hl 0 rfl) ?_
  refine lv_iconst (v := 2) hC.x hC.b dL_law_1279 (by decide) ?_
  refine lv_iadd hC.x hC.b dL_law_1280 ?_
  refine va_sld hC.x hC.b hX hbl hbA hS h2 dL_law_1281 ?_
  refine fg_i hC (fr_V (rest := [.int r1]) (As := [.int (xs (x4 + 1).toNatClampNeg), .int (xs (x4 + 2).toNatClampNeg)]) hC (m6_moveFor l g2) vL_6_moveFor h6_moveFor 0 5 gCl_X6 rfl rfl ⟨rfl, rfl, Nat.le_of_ble_eq_true rfl, Nat.le_of_ble_eq_true rfl⟩ ⟨by show _ ≤ 1200128; omega, by show _ ≤ 5501098; omega⟩ hP hD hl.1 (Nat.le_of_ble_eq_true rfl) dL_law_1282 rfl) hP hD hS (fun r2 u2 H locs f2 hP hD hS => ?_)
  have hP := w3_P (w3_P hP)
  have hD := w3_D (w3_D hD)
  obtain ⟨rfl, f1⟩ := f1
  obtain ⟨rfl, f2⟩ := f2
  refine lv_icmp_eq (tgt := 2315) hC.x hC.b dL_law_1285 (by decide) (fun _ => ?_) (fun c => absurd rfl c)
  refine W.widen (k := cells + 4644) (n := slots + 27909) (by omega) (by omega) ?_
  exact next _ _ _ _ _ _ _ _ _ _ ls (g3 _ _ f1 f2) hP hD hS hl
theorem vL_1_bring : GoodIn lw_all (wsV RX0 143 RX1 yX1_bring (ws_ yX1_bring cX1_bring 4 (some .int))) := lw_V q1143 q1144 q1145 q118 q1146
theorem vL_6_bring : GoodIn lw_all (wsV RX0 146 RX6 yX6_bring (ws_ yX6_bring cX6_bring 4 (some .int))) := lw_V q1974 q1975 q1976 q126 q1977
abbrev Ob_bring (Inv : Option TD → CS → Option (Nat → Nat) → MS → Prop) (a0 a1 : Int32) : Prop := ObI Inv (fun post tw S => w1_bring post tw S a0 a1) (fun post tw S => w6_bring post tw S a0 a1)
set_option maxHeartbeats 4000000 in
theorem lc_30 {Inv : Option TD → CS → Option (Nat → Nat) → MS → Prop} {w0 t0 : Option Nat} {tw : Option TD} {S : CS} {rdv : Option Nat} {tw' : Option (Nat → Nat)} {S' : MS} {ov : Nat → Int64} (hC : CX RX0 cL_law 7 (some .boolean) D gCl nwG Z Hb A p s m args meth c) (hX : va_X b L xs s s.heap) (hbl : b < s.heap.size) (hbA : ¬ A b) (h1 : vp_in (x4 + 1) L) (h2 : vp_in (x4 + 2) L) (h3 : vp_in (x4 + 3) L) (h4 : vp_in (x4 + 4) L) (h5 : vp_in (x4 + 5) L) (hcl : cells + 4644 ≤ 1200128) (hsl : slots + 27909 ≤ 5501098)
    (hO : Ob_bring Inv (xs (x4 + 1).toNatClampNeg) (xs (x4 + 2).toNatClampNeg)) (hI : Inv tw S tw' S') (hP : va_P D gCl (wL D ad am ao rf w0 t0 tw S rdv tw' S' ov) H) (hD : va_D A (wL D ad am ao rf w0 t0 tw S rdv tw' S' ov)) (hS : va_S A s.heap H locs) (hl : lv_has ls 7 (lL b ad am ao x4))
    (next : ∀ (w0 t0 : Option Nat) (tw : Option TD) (S : CS) (rdv : Option Nat) (tw' : Option (Nat → Nat)) (S' : MS) (ov : Nat → Int64) (H : Heap) (locs : List Loc) (ls : Array Slot), Inv tw S tw' S' → va_P D gCl (wL D ad am ao rf w0 t0 tw S rdv tw' S' ov) H → va_D A (wL D ad am ao rf w0 t0 tw S rdv tw' S' ov) → va_S A s.heap H locs → lv_has ls 7 (lL b ad am ao x4) → W p l e room_1 s m args below meth c H locs (cells + 4644) (slots + 27909) Q (F0 m 2315 ls [])) :
    W p l e room_1 s m args below meth c H locs cells slots Q (F0 m 1290 ls []) := by
  obtain ⟨r, C2, M2, g1, g2, g3⟩ := hO tw S tw' S' hI
  refine lv_aload_n hC.x hC.b dL_law_1290 rfl (lv_at hl 3 rfl) ?_
  refine lv_aload_n hC.x hC.b dL_law_1291 rfl (lv_at hl 4 rfl) ?_
  refine lv_iload hC.x hC.b dL_law_1292 (lv_at hl 0 rfl) ?_
  refine lv_iconst (v := 1) hC.x hC.b dL_law_1294 (by decide) ?_
  refine lv_iadd hC.x hC.b dL_law_1295 ?_
  refine va_sld hC.x hC.b hX hbl hbA hS h1 dL_law_1296 ?_
  refine lv_aload_n hC.x hC.b dL_law_1297 rfl (lv_at hl 4 rfl) ?_
  refine lv_iload hC.x hC.b dL_law_1298 (lv_at hl 0 rfl) ?_
  refine lv_iconst (v := 2) hC.x hC.b dL_law_1300 (by decide) ?_
  refine lv_iadd hC.x hC.b dL_law_1301 ?_
  refine va_sld hC.x hC.b hX hbl hbA hS h2 dL_law_1302 ?_
  refine fg_i hC (fr_V (rest := []) (As := [.int (xs (x4 + 1).toNatClampNeg), .int (xs (x4 + 2).toNatClampNeg)]) hC (m1_bring l g1) vL_1_bring h1_bring 0 0 gCl_X1 rfl rfl ⟨rfl, rfl, Nat.le_of_ble_eq_true rfl, Nat.le_of_ble_eq_true rfl⟩ ⟨by show _ ≤ 1200128; omega, by show _ ≤ 5501098; omega⟩ hP hD hl.1 (Nat.le_of_ble_eq_true rfl) dL_law_1303 rfl) hP hD hS (fun r1 u1 H locs f1 hP hD hS => ?_)
  have hP := w3_P hP
  have hD := w3_D hD
  refine lv_aload_n hC.x hC.b dL_law_1306 rfl (lv_at hl 2 rfl) ?_
  refine lv_aload_n hC.x hC.b dL_law_1307 rfl (lv_at hl 4 rfl) ?_
  refine lv_iload hC.x hC.b dL_law_1308 (lv_at hl 0 rfl) ?_
  refine lv_iconst (v := 1) hC.x hC.b dL_law_1310 (by decide) ?_
  refine lv_iadd hC.x hC.b dL_law_1311 ?_
  refine va_sld hC.x hC.b hX hbl hbA hS h1 dL_law_1312 ?_
  refine lv_aload_n hC.x hC.b dL_law_1313 rfl (lv_at hl 4 rfl) ?_
  refine lv_iload hC.x hC.b dL_law_1314 (lv_at hl 0 rfl) ?_
  refine lv_iconst (v := 2) hC.x hC.b dL_law_1316 (by decide) ?_
  refine lv_iadd hC.x hC.b dL_law_1317 ?_
  refine va_sld hC.x hC.b hX hbl hbA hS h2 dL_law_1318 ?_
  refine fg_i hC (fr_V (rest := [.int r1]) (As := [.int (xs (x4 + 1).toNatClampNeg), .int (xs (x4 + 2).toNatClampNeg)]) hC (m6_bring l g2) vL_6_bring h6_bring 0 5 gCl_X6 rfl rfl ⟨rfl, rfl, Nat.le_of_ble_eq_true rfl, Nat.le_of_ble_eq_true rfl⟩ ⟨by show _ ≤ 1200128; omega, by show _ ≤ 5501098; omega⟩ hP hD hl.1 (Nat.le_of_ble_eq_true rfl) dL_law_1319 rfl) hP hD hS (fun r2 u2 H locs f2 hP hD hS => ?_)
  have hP := w3_P (w3_P hP)
  have hD := w3_D (w3_D hD)
  obtain ⟨rfl, f1⟩ := f1
  obtain ⟨rfl, f2⟩ := f2
  refine lv_icmp_eq (tgt := 2315) hC.x hC.b dL_law_1322 (by decide) (fun _ => ?_) (fun c => absurd rfl c)
  refine W.widen (k := cells + 4644) (n := slots + 27909) (by omega) (by omega) ?_
  exact next _ _ _ _ _ _ _ _ _ _ ls (g3 _ _ f1 f2) hP hD hS hl
theorem vL_1_bringFrom : GoodIn lw_all (wsV RX0 147 RX1 yX1_bringFrom (ws_ yX1_bringFrom cX1_bringFrom 7 (some .int))) := lw_V q1169 q1170 q1171 q118 q1172
theorem vL_6_bringFrom : GoodIn lw_all (wsV RX0 150 RX6 yX6_bringFrom (ws_ yX6_bringFrom cX6_bringFrom 7 (some .int))) := lw_V q1994 q1995 q1996 q126 q1997
abbrev Ob_bringFrom (Inv : Option TD → CS → Option (Nat → Nat) → MS → Prop) (a0 : Int32) : Prop := ObI Inv (fun post tw S => w1_bringFrom post tw S a0) (fun post tw S => w6_bringFrom post tw S a0)
set_option maxHeartbeats 4000000 in
theorem lc_31 {Inv : Option TD → CS → Option (Nat → Nat) → MS → Prop} {w0 t0 : Option Nat} {tw : Option TD} {S : CS} {rdv : Option Nat} {tw' : Option (Nat → Nat)} {S' : MS} {ov : Nat → Int64} (hC : CX RX0 cL_law 7 (some .boolean) D gCl nwG Z Hb A p s m args meth c) (hX : va_X b L xs s s.heap) (hbl : b < s.heap.size) (hbA : ¬ A b) (h1 : vp_in (x4 + 1) L) (h2 : vp_in (x4 + 2) L) (h3 : vp_in (x4 + 3) L) (h4 : vp_in (x4 + 4) L) (h5 : vp_in (x4 + 5) L) (hcl : cells + 4644 ≤ 1200128) (hsl : slots + 27909 ≤ 5501098)
    (hO : Ob_bringFrom Inv (xs (x4 + 1).toNatClampNeg)) (hI : Inv tw S tw' S') (hP : va_P D gCl (wL D ad am ao rf w0 t0 tw S rdv tw' S' ov) H) (hD : va_D A (wL D ad am ao rf w0 t0 tw S rdv tw' S' ov)) (hS : va_S A s.heap H locs) (hl : lv_has ls 7 (lL b ad am ao x4))
    (next : ∀ (w0 t0 : Option Nat) (tw : Option TD) (S : CS) (rdv : Option Nat) (tw' : Option (Nat → Nat)) (S' : MS) (ov : Nat → Int64) (H : Heap) (locs : List Loc) (ls : Array Slot), Inv tw S tw' S' → va_P D gCl (wL D ad am ao rf w0 t0 tw S rdv tw' S' ov) H → va_D A (wL D ad am ao rf w0 t0 tw S rdv tw' S' ov) → va_S A s.heap H locs → lv_has ls 7 (lL b ad am ao x4) → W p l e room_1 s m args below meth c H locs (cells + 4644) (slots + 27909) Q (F0 m 2315 ls [])) :
    W p l e room_1 s m args below meth c H locs cells slots Q (F0 m 1327 ls []) := by
  obtain ⟨r, C2, M2, g1, g2, g3⟩ := hO tw S tw' S' hI
  refine lv_aload_n hC.x hC.b dL_law_1327 rfl (lv_at hl 3 rfl) ?_
  refine lv_aload_n hC.x hC.b dL_law_1328 rfl (lv_at hl 4 rfl) ?_
  refine lv_iload hC.x hC.b dL_law_1329 (lv_at hl 0 rfl) ?_
  refine lv_iconst (v := 1) hC.x hC.b dL_law_1331 (by decide) ?_
  refine lv_iadd hC.x hC.b dL_law_1332 ?_
  refine va_sld hC.x hC.b hX hbl hbA hS h1 dL_law_1333 ?_
  refine fg_i hC (fr_V (rest := []) (As := [.int (xs (x4 + 1).toNatClampNeg)]) hC (m1_bringFrom l g1) vL_1_bringFrom h1_bringFrom 0 0 gCl_X1 rfl rfl ⟨rfl, rfl, Nat.le_of_ble_eq_true rfl, Nat.le_of_ble_eq_true rfl⟩ ⟨by show _ ≤ 1200128; omega, by show _ ≤ 5501098; omega⟩ hP hD hl.1 (Nat.le_of_ble_eq_true rfl) dL_law_1334 rfl) hP hD hS (fun r1 u1 H locs f1 hP hD hS => ?_)
  have hP := w3_P hP
  have hD := w3_D hD
  refine lv_aload_n hC.x hC.b dL_law_1337 rfl (lv_at hl 2 rfl) ?_
  refine lv_aload_n hC.x hC.b dL_law_1338 rfl (lv_at hl 4 rfl) ?_
  refine lv_iload hC.x hC.b dL_law_1339 (lv_at hl 0 rfl) ?_
  refine lv_iconst (v := 1) hC.x hC.b dL_law_1341 (by decide) ?_
  refine lv_iadd hC.x hC.b dL_law_1342 ?_
  refine va_sld hC.x hC.b hX hbl hbA hS h1 dL_law_1343 ?_
  refine fg_i hC (fr_V (rest := [.int r1]) (As := [.int (xs (x4 + 1).toNatClampNeg)]) hC (m6_bringFrom l g2) vL_6_bringFrom h6_bringFrom 0 5 gCl_X6 rfl rfl ⟨rfl, rfl, Nat.le_of_ble_eq_true rfl, Nat.le_of_ble_eq_true rfl⟩ ⟨by show _ ≤ 1200128; omega, by show _ ≤ 5501098; omega⟩ hP hD hl.1 (Nat.le_of_ble_eq_true rfl) dL_law_1344 rfl) hP hD hS (fun r2 u2 H locs f2 hP hD hS => ?_)
  have hP := w3_P (w3_P hP)
  have hD := w3_D (w3_D hD)
  obtain ⟨rfl, f1⟩ := f1
  obtain ⟨rfl, f2⟩ := f2
  refine lv_icmp_eq (tgt := 2315) hC.x hC.b dL_law_1347 (by decide) (fun _ => ?_) (fun c => absurd rfl c)
  refine W.widen (k := cells + 4644) (n := slots + 27909) (by omega) (by omega) ?_
  exact next _ _ _ _ _ _ _ _ _ _ ls (g3 _ _ f1 f2) hP hD hS hl
theorem vL_1_steps : GoodIn lw_all (wsV RX0 151 RX1 yX1_steps (ws_ yX1_steps cX1_steps 3 (some .int))) := lw_V q1174 q1175 q1176 q118 q1177
theorem vL_6_steps : GoodIn lw_all (wsV RX0 154 RX6 yX6_steps (ws_ yX6_steps cX6_steps 3 (some .int))) := lw_V q1998 q1999 q2000 q126 q2001
abbrev Ob_steps (Inv : Option TD → CS → Option (Nat → Nat) → MS → Prop) (a0 a1 : Int32) : Prop := ObI Inv (fun post tw S => w1_steps post tw S a0 a1) (fun post tw S => w6_steps post tw S a0 a1)
set_option maxHeartbeats 4000000 in
theorem lc_32 {Inv : Option TD → CS → Option (Nat → Nat) → MS → Prop} {w0 t0 : Option Nat} {tw : Option TD} {S : CS} {rdv : Option Nat} {tw' : Option (Nat → Nat)} {S' : MS} {ov : Nat → Int64} (hC : CX RX0 cL_law 7 (some .boolean) D gCl nwG Z Hb A p s m args meth c) (hX : va_X b L xs s s.heap) (hbl : b < s.heap.size) (hbA : ¬ A b) (h1 : vp_in (x4 + 1) L) (h2 : vp_in (x4 + 2) L) (h3 : vp_in (x4 + 3) L) (h4 : vp_in (x4 + 4) L) (h5 : vp_in (x4 + 5) L) (hcl : cells + 4644 ≤ 1200128) (hsl : slots + 27909 ≤ 5501098)
    (hO : Ob_steps Inv (xs (x4 + 1).toNatClampNeg) (xs (x4 + 2).toNatClampNeg)) (hI : Inv tw S tw' S') (hP : va_P D gCl (wL D ad am ao rf w0 t0 tw S rdv tw' S' ov) H) (hD : va_D A (wL D ad am ao rf w0 t0 tw S rdv tw' S' ov)) (hS : va_S A s.heap H locs) (hl : lv_has ls 7 (lL b ad am ao x4))
    (next : ∀ (w0 t0 : Option Nat) (tw : Option TD) (S : CS) (rdv : Option Nat) (tw' : Option (Nat → Nat)) (S' : MS) (ov : Nat → Int64) (H : Heap) (locs : List Loc) (ls : Array Slot), Inv tw S tw' S' → va_P D gCl (wL D ad am ao rf w0 t0 tw S rdv tw' S' ov) H → va_D A (wL D ad am ao rf w0 t0 tw S rdv tw' S' ov) → va_S A s.heap H locs → lv_has ls 7 (lL b ad am ao x4) → W p l e room_1 s m args below meth c H locs (cells + 4644) (slots + 27909) Q (F0 m 2315 ls [])) :
    W p l e room_1 s m args below meth c H locs cells slots Q (F0 m 1352 ls []) := by
  obtain ⟨r, C2, M2, g1, g2, g3⟩ := hO tw S tw' S' hI
  refine lv_aload_n hC.x hC.b dL_law_1352 rfl (lv_at hl 3 rfl) ?_
  refine lv_aload_n hC.x hC.b dL_law_1353 rfl (lv_at hl 4 rfl) ?_
  refine lv_iload hC.x hC.b dL_law_1354 (lv_at hl 0 rfl) ?_
  refine lv_iconst (v := 1) hC.x hC.b dL_law_1356 (by decide) ?_
  refine lv_iadd hC.x hC.b dL_law_1357 ?_
  refine va_sld hC.x hC.b hX hbl hbA hS h1 dL_law_1358 ?_
  refine lv_aload_n hC.x hC.b dL_law_1359 rfl (lv_at hl 4 rfl) ?_
  refine lv_iload hC.x hC.b dL_law_1360 (lv_at hl 0 rfl) ?_
  refine lv_iconst (v := 2) hC.x hC.b dL_law_1362 (by decide) ?_
  refine lv_iadd hC.x hC.b dL_law_1363 ?_
  refine va_sld hC.x hC.b hX hbl hbA hS h2 dL_law_1364 ?_
  refine fg_i hC (fr_V (rest := []) (As := [.int (xs (x4 + 1).toNatClampNeg), .int (xs (x4 + 2).toNatClampNeg)]) hC (m1_steps l g1) vL_1_steps h1_steps 0 0 gCl_X1 rfl rfl ⟨rfl, rfl, Nat.le_of_ble_eq_true rfl, Nat.le_of_ble_eq_true rfl⟩ ⟨by show _ ≤ 1200128; omega, by show _ ≤ 5501098; omega⟩ hP hD hl.1 (Nat.le_of_ble_eq_true rfl) dL_law_1365 rfl) hP hD hS (fun r1 u1 H locs f1 hP hD hS => ?_)
  have hP := w3_P hP
  have hD := w3_D hD
  refine lv_aload_n hC.x hC.b dL_law_1368 rfl (lv_at hl 2 rfl) ?_
  refine lv_aload_n hC.x hC.b dL_law_1369 rfl (lv_at hl 4 rfl) ?_
  refine lv_iload hC.x hC.b dL_law_1370 (lv_at hl 0 rfl) ?_
  refine lv_iconst (v := 1) hC.x hC.b dL_law_1372 (by decide) ?_
  refine lv_iadd hC.x hC.b dL_law_1373 ?_
  refine va_sld hC.x hC.b hX hbl hbA hS h1 dL_law_1374 ?_
  refine lv_aload_n hC.x hC.b dL_law_1375 rfl (lv_at hl 4 rfl) ?_
  refine lv_iload hC.x hC.b dL_law_1376 (lv_at hl 0 rfl) ?_
  refine lv_iconst (v := 2) hC.x hC.b dL_law_1378 (by decide) ?_
  refine lv_iadd hC.x hC.b dL_law_1379 ?_
  refine va_sld hC.x hC.b hX hbl hbA hS h2 dL_law_1380 ?_
  refine fg_i hC (fr_V (rest := [.int r1]) (As := [.int (xs (x4 + 1).toNatClampNeg), .int (xs (x4 + 2).toNatClampNeg)]) hC (m6_steps l g2) vL_6_steps h6_steps 0 5 gCl_X6 rfl rfl ⟨rfl, rfl, Nat.le_of_ble_eq_true rfl, Nat.le_of_ble_eq_true rfl⟩ ⟨by show _ ≤ 1200128; omega, by show _ ≤ 5501098; omega⟩ hP hD hl.1 (Nat.le_of_ble_eq_true rfl) dL_law_1381 rfl) hP hD hS (fun r2 u2 H locs f2 hP hD hS => ?_)
  have hP := w3_P (w3_P hP)
  have hD := w3_D (w3_D hD)
  obtain ⟨rfl, f1⟩ := f1
  obtain ⟨rfl, f2⟩ := f2
  refine lv_icmp_eq (tgt := 2315) hC.x hC.b dL_law_1384 (by decide) (fun _ => ?_) (fun c => absurd rfl c)
  refine W.widen (k := cells + 4644) (n := slots + 27909) (by omega) (by omega) ?_
  exact next _ _ _ _ _ _ _ _ _ _ ls (g3 _ _ f1 f2) hP hD hS hl
theorem vL_1_ring : GoodIn lw_all (wsV RX0 155 RX1 yX1_ring (ws_ yX1_ring cX1_ring 4 (some .int))) := lw_V q1188 q1189 q1190 q118 q1191
theorem vL_6_ring : GoodIn lw_all (wsV RX0 158 RX6 yX6_ring (ws_ yX6_ring cX6_ring 4 (some .int))) := lw_V q2002 q2003 q2004 q126 q2005
abbrev Ob_ring (Inv : Option TD → CS → Option (Nat → Nat) → MS → Prop) (a0 a1 : Int32) : Prop := ObI Inv (fun post tw S => w1_ring post tw S a0 a1) (fun post tw S => w6_ring post tw S a0 a1)
set_option maxHeartbeats 4000000 in
theorem lc_33 {Inv : Option TD → CS → Option (Nat → Nat) → MS → Prop} {w0 t0 : Option Nat} {tw : Option TD} {S : CS} {rdv : Option Nat} {tw' : Option (Nat → Nat)} {S' : MS} {ov : Nat → Int64} (hC : CX RX0 cL_law 7 (some .boolean) D gCl nwG Z Hb A p s m args meth c) (hX : va_X b L xs s s.heap) (hbl : b < s.heap.size) (hbA : ¬ A b) (h1 : vp_in (x4 + 1) L) (h2 : vp_in (x4 + 2) L) (h3 : vp_in (x4 + 3) L) (h4 : vp_in (x4 + 4) L) (h5 : vp_in (x4 + 5) L) (hcl : cells + 4644 ≤ 1200128) (hsl : slots + 27909 ≤ 5501098)
    (hO : Ob_ring Inv (xs (x4 + 1).toNatClampNeg) (xs (x4 + 2).toNatClampNeg)) (hI : Inv tw S tw' S') (hP : va_P D gCl (wL D ad am ao rf w0 t0 tw S rdv tw' S' ov) H) (hD : va_D A (wL D ad am ao rf w0 t0 tw S rdv tw' S' ov)) (hS : va_S A s.heap H locs) (hl : lv_has ls 7 (lL b ad am ao x4))
    (next : ∀ (w0 t0 : Option Nat) (tw : Option TD) (S : CS) (rdv : Option Nat) (tw' : Option (Nat → Nat)) (S' : MS) (ov : Nat → Int64) (H : Heap) (locs : List Loc) (ls : Array Slot), Inv tw S tw' S' → va_P D gCl (wL D ad am ao rf w0 t0 tw S rdv tw' S' ov) H → va_D A (wL D ad am ao rf w0 t0 tw S rdv tw' S' ov) → va_S A s.heap H locs → lv_has ls 7 (lL b ad am ao x4) → W p l e room_1 s m args below meth c H locs (cells + 4644) (slots + 27909) Q (F0 m 2315 ls [])) :
    W p l e room_1 s m args below meth c H locs cells slots Q (F0 m 1389 ls []) := by
  obtain ⟨r, C2, M2, g1, g2, g3⟩ := hO tw S tw' S' hI
  refine lv_aload_n hC.x hC.b dL_law_1389 rfl (lv_at hl 3 rfl) ?_
  refine lv_aload_n hC.x hC.b dL_law_1390 rfl (lv_at hl 4 rfl) ?_
  refine lv_iload hC.x hC.b dL_law_1391 (lv_at hl 0 rfl) ?_
  refine lv_iconst (v := 1) hC.x hC.b dL_law_1393 (by decide) ?_
  refine lv_iadd hC.x hC.b dL_law_1394 ?_
  refine va_sld hC.x hC.b hX hbl hbA hS h1 dL_law_1395 ?_
  refine lv_aload_n hC.x hC.b dL_law_1396 rfl (lv_at hl 4 rfl) ?_
  refine lv_iload hC.x hC.b dL_law_1397 (lv_at hl 0 rfl) ?_
  refine lv_iconst (v := 2) hC.x hC.b dL_law_1399 (by decide) ?_
  refine lv_iadd hC.x hC.b dL_law_1400 ?_
  refine va_sld hC.x hC.b hX hbl hbA hS h2 dL_law_1401 ?_
  refine fg_i hC (fr_V (rest := []) (As := [.int (xs (x4 + 1).toNatClampNeg), .int (xs (x4 + 2).toNatClampNeg)]) hC (m1_ring l g1) vL_1_ring h1_ring 0 0 gCl_X1 rfl rfl ⟨rfl, rfl, Nat.le_of_ble_eq_true rfl, Nat.le_of_ble_eq_true rfl⟩ ⟨by show _ ≤ 1200128; omega, by show _ ≤ 5501098; omega⟩ hP hD hl.1 (Nat.le_of_ble_eq_true rfl) dL_law_1402 rfl) hP hD hS (fun r1 u1 H locs f1 hP hD hS => ?_)
  have hP := w3_P hP
  have hD := w3_D hD
  refine lv_aload_n hC.x hC.b dL_law_1405 rfl (lv_at hl 2 rfl) ?_
  refine lv_aload_n hC.x hC.b dL_law_1406 rfl (lv_at hl 4 rfl) ?_
  refine lv_iload hC.x hC.b dL_law_1407 (lv_at hl 0 rfl) ?_
  refine lv_iconst (v := 1) hC.x hC.b dL_law_1409 (by decide) ?_
  refine lv_iadd hC.x hC.b dL_law_1410 ?_
  refine va_sld hC.x hC.b hX hbl hbA hS h1 dL_law_1411 ?_
  refine lv_aload_n hC.x hC.b dL_law_1412 rfl (lv_at hl 4 rfl) ?_
  refine lv_iload hC.x hC.b dL_law_1413 (lv_at hl 0 rfl) ?_
  refine lv_iconst (v := 2) hC.x hC.b dL_law_1415 (by decide) ?_
  refine lv_iadd hC.x hC.b dL_law_1416 ?_
  refine va_sld hC.x hC.b hX hbl hbA hS h2 dL_law_1417 ?_
  refine fg_i hC (fr_V (rest := [.int r1]) (As := [.int (xs (x4 + 1).toNatClampNeg), .int (xs (x4 + 2).toNatClampNeg)]) hC (m6_ring l g2) vL_6_ring h6_ring 0 5 gCl_X6 rfl rfl ⟨rfl, rfl, Nat.le_of_ble_eq_true rfl, Nat.le_of_ble_eq_true rfl⟩ ⟨by show _ ≤ 1200128; omega, by show _ ≤ 5501098; omega⟩ hP hD hl.1 (Nat.le_of_ble_eq_true rfl) dL_law_1418 rfl) hP hD hS (fun r2 u2 H locs f2 hP hD hS => ?_)
  have hP := w3_P (w3_P hP)
  have hD := w3_D (w3_D hD)
  obtain ⟨rfl, f1⟩ := f1
  obtain ⟨rfl, f2⟩ := f2
  refine lv_icmp_eq (tgt := 2315) hC.x hC.b dL_law_1421 (by decide) (fun _ => ?_) (fun c => absurd rfl c)
  refine W.widen (k := cells + 4644) (n := slots + 27909) (by omega) (by omega) ?_
  exact next _ _ _ _ _ _ _ _ _ _ ls (g3 _ _ f1 f2) hP hD hS hl
theorem vL_1_ringAt : GoodIn lw_all (wsV RX0 159 RX1 yX1_ringAt (ws_ yX1_ringAt cX1_ringAt 5 (some .int))) := lw_V q1196 q1197 q1198 q118 q1199
theorem vL_6_ringAt : GoodIn lw_all (wsV RX0 162 RX6 yX6_ringAt (ws_ yX6_ringAt cX6_ringAt 7 (some .int))) := lw_V q2018 q2019 q2020 q126 q2021
abbrev Ob_ringAt (Inv : Option TD → CS → Option (Nat → Nat) → MS → Prop) (a0 a1 a2 : Int32) : Prop := ObI Inv (fun post tw S => w1_ringAt post tw S a0 a1 a2) (fun post tw S => w6_ringAt post tw S a0 a1 a2)
set_option maxHeartbeats 4000000 in
theorem lc_34 {Inv : Option TD → CS → Option (Nat → Nat) → MS → Prop} {w0 t0 : Option Nat} {tw : Option TD} {S : CS} {rdv : Option Nat} {tw' : Option (Nat → Nat)} {S' : MS} {ov : Nat → Int64} (hC : CX RX0 cL_law 7 (some .boolean) D gCl nwG Z Hb A p s m args meth c) (hX : va_X b L xs s s.heap) (hbl : b < s.heap.size) (hbA : ¬ A b) (h1 : vp_in (x4 + 1) L) (h2 : vp_in (x4 + 2) L) (h3 : vp_in (x4 + 3) L) (h4 : vp_in (x4 + 4) L) (h5 : vp_in (x4 + 5) L) (hcl : cells + 4644 ≤ 1200128) (hsl : slots + 27909 ≤ 5501098)
    (hO : Ob_ringAt Inv (xs (x4 + 1).toNatClampNeg) (xs (x4 + 2).toNatClampNeg) (xs (x4 + 3).toNatClampNeg)) (hI : Inv tw S tw' S') (hP : va_P D gCl (wL D ad am ao rf w0 t0 tw S rdv tw' S' ov) H) (hD : va_D A (wL D ad am ao rf w0 t0 tw S rdv tw' S' ov)) (hS : va_S A s.heap H locs) (hl : lv_has ls 7 (lL b ad am ao x4))
    (next : ∀ (w0 t0 : Option Nat) (tw : Option TD) (S : CS) (rdv : Option Nat) (tw' : Option (Nat → Nat)) (S' : MS) (ov : Nat → Int64) (H : Heap) (locs : List Loc) (ls : Array Slot), Inv tw S tw' S' → va_P D gCl (wL D ad am ao rf w0 t0 tw S rdv tw' S' ov) H → va_D A (wL D ad am ao rf w0 t0 tw S rdv tw' S' ov) → va_S A s.heap H locs → lv_has ls 7 (lL b ad am ao x4) → W p l e room_1 s m args below meth c H locs (cells + 4644) (slots + 27909) Q (F0 m 2315 ls [])) :
    W p l e room_1 s m args below meth c H locs cells slots Q (F0 m 1426 ls []) := by
  obtain ⟨r, C2, M2, g1, g2, g3⟩ := hO tw S tw' S' hI
  refine lv_aload_n hC.x hC.b dL_law_1426 rfl (lv_at hl 3 rfl) ?_
  refine lv_aload_n hC.x hC.b dL_law_1427 rfl (lv_at hl 4 rfl) ?_
  refine lv_iload hC.x hC.b dL_law_1428 (lv_at hl 0 rfl) ?_
  refine lv_iconst (v := 1) hC.x hC.b dL_law_1430 (by decide) ?_
  refine lv_iadd hC.x hC.b dL_law_1431 ?_
  refine va_sld hC.x hC.b hX hbl hbA hS h1 dL_law_1432 ?_
  refine lv_aload_n hC.x hC.b dL_law_1433 rfl (lv_at hl 4 rfl) ?_
  refine lv_iload hC.x hC.b dL_law_1434 (lv_at hl 0 rfl) ?_
  refine lv_iconst (v := 2) hC.x hC.b dL_law_1436 (by decide) ?_
  refine lv_iadd hC.x hC.b dL_law_1437 ?_
  refine va_sld hC.x hC.b hX hbl hbA hS h2 dL_law_1438 ?_
  refine lv_aload_n hC.x hC.b dL_law_1439 rfl (lv_at hl 4 rfl) ?_
  refine lv_iload hC.x hC.b dL_law_1440 (lv_at hl 0 rfl) ?_
  refine lv_iconst (v := 3) hC.x hC.b dL_law_1442 (by decide) ?_
  refine lv_iadd hC.x hC.b dL_law_1443 ?_
  refine va_sld hC.x hC.b hX hbl hbA hS h3 dL_law_1444 ?_
  refine fg_i hC (fr_V (rest := []) (As := [.int (xs (x4 + 1).toNatClampNeg), .int (xs (x4 + 2).toNatClampNeg), .int (xs (x4 + 3).toNatClampNeg)]) hC (m1_ringAt l g1) vL_1_ringAt h1_ringAt 0 0 gCl_X1 rfl rfl ⟨rfl, rfl, Nat.le_of_ble_eq_true rfl, Nat.le_of_ble_eq_true rfl⟩ ⟨by show _ ≤ 1200128; omega, by show _ ≤ 5501098; omega⟩ hP hD hl.1 (Nat.le_of_ble_eq_true rfl) dL_law_1445 rfl) hP hD hS (fun r1 u1 H locs f1 hP hD hS => ?_)
  have hP := w3_P hP
  have hD := w3_D hD
  refine lv_aload_n hC.x hC.b dL_law_1448 rfl (lv_at hl 2 rfl) ?_
  refine lv_aload_n hC.x hC.b dL_law_1449 rfl (lv_at hl 4 rfl) ?_
  refine lv_iload hC.x hC.b dL_law_1450 (lv_at hl 0 rfl) ?_
  refine lv_iconst (v := 1) hC.x hC.b dL_law_1452 (by decide) ?_
  refine lv_iadd hC.x hC.b dL_law_1453 ?_
  refine va_sld hC.x hC.b hX hbl hbA hS h1 dL_law_1454 ?_
  refine lv_aload_n hC.x hC.b dL_law_1455 rfl (lv_at hl 4 rfl) ?_
  refine lv_iload hC.x hC.b dL_law_1456 (lv_at hl 0 rfl) ?_
  refine lv_iconst (v := 2) hC.x hC.b dL_law_1458 (by decide) ?_
  refine lv_iadd hC.x hC.b dL_law_1459 ?_
  refine va_sld hC.x hC.b hX hbl hbA hS h2 dL_law_1460 ?_
  refine lv_aload_n hC.x hC.b dL_law_1461 rfl (lv_at hl 4 rfl) ?_
  refine lv_iload hC.x hC.b dL_law_1462 (lv_at hl 0 rfl) ?_
  refine lv_iconst (v := 3) hC.x hC.b dL_law_1464 (by decide) ?_
  refine lv_iadd hC.x hC.b dL_law_1465 ?_
  refine va_sld hC.x hC.b hX hbl hbA hS h3 dL_law_1466 ?_
  refine fg_i hC (fr_V (rest := [.int r1]) (As := [.int (xs (x4 + 1).toNatClampNeg), .int (xs (x4 + 2).toNatClampNeg), .int (xs (x4 + 3).toNatClampNeg)]) hC (m6_ringAt l g2) vL_6_ringAt h6_ringAt 0 5 gCl_X6 rfl rfl ⟨rfl, rfl, Nat.le_of_ble_eq_true rfl, Nat.le_of_ble_eq_true rfl⟩ ⟨by show _ ≤ 1200128; omega, by show _ ≤ 5501098; omega⟩ hP hD hl.1 (Nat.le_of_ble_eq_true rfl) dL_law_1467 rfl) hP hD hS (fun r2 u2 H locs f2 hP hD hS => ?_)
  have hP := w3_P (w3_P hP)
  have hD := w3_D (w3_D hD)
  obtain ⟨rfl, f1⟩ := f1
  obtain ⟨rfl, f2⟩ := f2
  refine lv_icmp_eq (tgt := 2315) hC.x hC.b dL_law_1470 (by decide) (fun _ => ?_) (fun c => absurd rfl c)
  refine W.widen (k := cells + 4644) (n := slots + 27909) (by omega) (by omega) ?_
  exact next _ _ _ _ _ _ _ _ _ _ ls (g3 _ _ f1 f2) hP hD hS hl
theorem vL_1_fits : GoodIn lw_all (wsV RX0 163 RX1 yX1_fits (ws_ yX1_fits cX1_fits 1 (some .int))) := lw_V q1200 q1201 q1202 q118 q1203
theorem vL_6_fits : GoodIn lw_all (wsV RX0 166 RX6 yX6_fits (ws_ yX6_fits cX6_fits 1 (some .int))) := lw_V q2022 q2023 q2024 q126 q2025
abbrev Ob_fits (Inv : Option TD → CS → Option (Nat → Nat) → MS → Prop) : Prop := ObI Inv (fun post tw S => w1_fits post tw S) (fun post tw S => w6_fits post tw S)
set_option maxHeartbeats 4000000 in
theorem lc_35 {Inv : Option TD → CS → Option (Nat → Nat) → MS → Prop} {w0 t0 : Option Nat} {tw : Option TD} {S : CS} {rdv : Option Nat} {tw' : Option (Nat → Nat)} {S' : MS} {ov : Nat → Int64} (hC : CX RX0 cL_law 7 (some .boolean) D gCl nwG Z Hb A p s m args meth c) (hX : va_X b L xs s s.heap) (hbl : b < s.heap.size) (hbA : ¬ A b) (h1 : vp_in (x4 + 1) L) (h2 : vp_in (x4 + 2) L) (h3 : vp_in (x4 + 3) L) (h4 : vp_in (x4 + 4) L) (h5 : vp_in (x4 + 5) L) (hcl : cells + 4644 ≤ 1200128) (hsl : slots + 27909 ≤ 5501098)
    (hO : Ob_fits Inv) (hI : Inv tw S tw' S') (hP : va_P D gCl (wL D ad am ao rf w0 t0 tw S rdv tw' S' ov) H) (hD : va_D A (wL D ad am ao rf w0 t0 tw S rdv tw' S' ov)) (hS : va_S A s.heap H locs) (hl : lv_has ls 7 (lL b ad am ao x4))
    (next : ∀ (w0 t0 : Option Nat) (tw : Option TD) (S : CS) (rdv : Option Nat) (tw' : Option (Nat → Nat)) (S' : MS) (ov : Nat → Int64) (H : Heap) (locs : List Loc) (ls : Array Slot), Inv tw S tw' S' → va_P D gCl (wL D ad am ao rf w0 t0 tw S rdv tw' S' ov) H → va_D A (wL D ad am ao rf w0 t0 tw S rdv tw' S' ov) → va_S A s.heap H locs → lv_has ls 7 (lL b ad am ao x4) → W p l e room_1 s m args below meth c H locs (cells + 4644) (slots + 27909) Q (F0 m 2315 ls [])) :
    W p l e room_1 s m args below meth c H locs cells slots Q (F0 m 1475 ls []) := by
  obtain ⟨r, C2, M2, g1, g2, g3⟩ := hO tw S tw' S' hI
  refine lv_aload_n hC.x hC.b dL_law_1475 rfl (lv_at hl 3 rfl) ?_
  refine fg_i hC (fr_V (rest := []) (As := []) hC (m1_fits l g1) vL_1_fits h1_fits 0 0 gCl_X1 rfl rfl ⟨rfl, rfl, Nat.le_of_ble_eq_true rfl, Nat.le_of_ble_eq_true rfl⟩ ⟨by show _ ≤ 1200128; omega, by show _ ≤ 5501098; omega⟩ hP hD hl.1 (Nat.le_of_ble_eq_true rfl) dL_law_1476 rfl) hP hD hS (fun r1 u1 H locs f1 hP hD hS => ?_)
  have hP := w3_P hP
  have hD := w3_D hD
  refine lv_aload_n hC.x hC.b dL_law_1479 rfl (lv_at hl 2 rfl) ?_
  refine fg_i hC (fr_V (rest := [.int r1]) (As := []) hC (m6_fits l g2) vL_6_fits h6_fits 0 5 gCl_X6 rfl rfl ⟨rfl, rfl, Nat.le_of_ble_eq_true rfl, Nat.le_of_ble_eq_true rfl⟩ ⟨by show _ ≤ 1200128; omega, by show _ ≤ 5501098; omega⟩ hP hD hl.1 (Nat.le_of_ble_eq_true rfl) dL_law_1480 rfl) hP hD hS (fun r2 u2 H locs f2 hP hD hS => ?_)
  have hP := w3_P (w3_P hP)
  have hD := w3_D (w3_D hD)
  obtain ⟨rfl, f1⟩ := f1
  obtain ⟨rfl, f2⟩ := f2
  refine lv_icmp_eq (tgt := 2315) hC.x hC.b dL_law_1483 (by decide) (fun _ => ?_) (fun c => absurd rfl c)
  refine W.widen (k := cells + 4644) (n := slots + 27909) (by omega) (by omega) ?_
  exact next _ _ _ _ _ _ _ _ _ _ ls (g3 _ _ f1 f2) hP hD hS hl
theorem vL_1_fitAt : GoodIn lw_all (wsV RX0 167 RX1 yX1_fitAt (ws_ yX1_fitAt cX1_fitAt 2 (some .int))) := lw_V q1212 q1213 q1214 q118 q1215
theorem vL_6_fitAt : GoodIn lw_all (wsV RX0 170 RX6 yX6_fitAt (ws_ yX6_fitAt cX6_fitAt 3 (some .int))) := lw_V q2034 q2035 q2036 q126 q2037
abbrev Ob_fitAt (Inv : Option TD → CS → Option (Nat → Nat) → MS → Prop) (a0 : Int32) : Prop := ObI Inv (fun post tw S => w1_fitAt post tw S a0) (fun post tw S => w6_fitAt post tw S a0)
set_option maxHeartbeats 4000000 in
theorem lc_36 {Inv : Option TD → CS → Option (Nat → Nat) → MS → Prop} {w0 t0 : Option Nat} {tw : Option TD} {S : CS} {rdv : Option Nat} {tw' : Option (Nat → Nat)} {S' : MS} {ov : Nat → Int64} (hC : CX RX0 cL_law 7 (some .boolean) D gCl nwG Z Hb A p s m args meth c) (hX : va_X b L xs s s.heap) (hbl : b < s.heap.size) (hbA : ¬ A b) (h1 : vp_in (x4 + 1) L) (h2 : vp_in (x4 + 2) L) (h3 : vp_in (x4 + 3) L) (h4 : vp_in (x4 + 4) L) (h5 : vp_in (x4 + 5) L) (hcl : cells + 4644 ≤ 1200128) (hsl : slots + 27909 ≤ 5501098)
    (hO : Ob_fitAt Inv (xs (x4 + 1).toNatClampNeg)) (hI : Inv tw S tw' S') (hP : va_P D gCl (wL D ad am ao rf w0 t0 tw S rdv tw' S' ov) H) (hD : va_D A (wL D ad am ao rf w0 t0 tw S rdv tw' S' ov)) (hS : va_S A s.heap H locs) (hl : lv_has ls 7 (lL b ad am ao x4))
    (next : ∀ (w0 t0 : Option Nat) (tw : Option TD) (S : CS) (rdv : Option Nat) (tw' : Option (Nat → Nat)) (S' : MS) (ov : Nat → Int64) (H : Heap) (locs : List Loc) (ls : Array Slot), Inv tw S tw' S' → va_P D gCl (wL D ad am ao rf w0 t0 tw S rdv tw' S' ov) H → va_D A (wL D ad am ao rf w0 t0 tw S rdv tw' S' ov) → va_S A s.heap H locs → lv_has ls 7 (lL b ad am ao x4) → W p l e room_1 s m args below meth c H locs (cells + 4644) (slots + 27909) Q (F0 m 2315 ls [])) :
    W p l e room_1 s m args below meth c H locs cells slots Q (F0 m 1488 ls []) := by
  obtain ⟨r, C2, M2, g1, g2, g3⟩ := hO tw S tw' S' hI
  refine lv_aload_n hC.x hC.b dL_law_1488 rfl (lv_at hl 3 rfl) ?_
  refine lv_aload_n hC.x hC.b dL_law_1489 rfl (lv_at hl 4 rfl) ?_
  refine lv_iload hC.x hC.b dL_law_1490 (lv_at hl 0 rfl) ?_
  refine lv_iconst (v := 1) hC.x hC.b dL_law_1492 (by decide) ?_
  refine lv_iadd hC.x hC.b dL_law_1493 ?_
  refine va_sld hC.x hC.b hX hbl hbA hS h1 dL_law_1494 ?_
  refine fg_i hC (fr_V (rest := []) (As := [.int (xs (x4 + 1).toNatClampNeg)]) hC (m1_fitAt l g1) vL_1_fitAt h1_fitAt 0 0 gCl_X1 rfl rfl ⟨rfl, rfl, Nat.le_of_ble_eq_true rfl, Nat.le_of_ble_eq_true rfl⟩ ⟨by show _ ≤ 1200128; omega, by show _ ≤ 5501098; omega⟩ hP hD hl.1 (Nat.le_of_ble_eq_true rfl) dL_law_1495 rfl) hP hD hS (fun r1 u1 H locs f1 hP hD hS => ?_)
  have hP := w3_P hP
  have hD := w3_D hD
  refine lv_aload_n hC.x hC.b dL_law_1498 rfl (lv_at hl 2 rfl) ?_
  refine lv_aload_n hC.x hC.b dL_law_1499 rfl (lv_at hl 4 rfl) ?_
  refine lv_iload hC.x hC.b dL_law_1500 (lv_at hl 0 rfl) ?_
  refine lv_iconst (v := 1) hC.x hC.b dL_law_1502 (by decide) ?_
  refine lv_iadd hC.x hC.b dL_law_1503 ?_
  refine va_sld hC.x hC.b hX hbl hbA hS h1 dL_law_1504 ?_
  refine fg_i hC (fr_V (rest := [.int r1]) (As := [.int (xs (x4 + 1).toNatClampNeg)]) hC (m6_fitAt l g2) vL_6_fitAt h6_fitAt 0 5 gCl_X6 rfl rfl ⟨rfl, rfl, Nat.le_of_ble_eq_true rfl, Nat.le_of_ble_eq_true rfl⟩ ⟨by show _ ≤ 1200128; omega, by show _ ≤ 5501098; omega⟩ hP hD hl.1 (Nat.le_of_ble_eq_true rfl) dL_law_1505 rfl) hP hD hS (fun r2 u2 H locs f2 hP hD hS => ?_)
  have hP := w3_P (w3_P hP)
  have hD := w3_D (w3_D hD)
  obtain ⟨rfl, f1⟩ := f1
  obtain ⟨rfl, f2⟩ := f2
  refine lv_icmp_eq (tgt := 2315) hC.x hC.b dL_law_1508 (by decide) (fun _ => ?_) (fun c => absurd rfl c)
  refine W.widen (k := cells + 4644) (n := slots + 27909) (by omega) (by omega) ?_
  exact next _ _ _ _ _ _ _ _ _ _ ls (g3 _ _ f1 f2) hP hD hS hl
theorem vL_1_could : GoodIn lw_all (wsV RX0 171 RX1 yX1_could (ws_ yX1_could cX1_could 1 (some .int))) := lw_V q1216 q1217 q1218 q118 q1219
theorem vL_6_could : GoodIn lw_all (wsV RX0 174 RX6 yX6_could (ws_ yX6_could cX6_could 1 (some .int))) := lw_V q2038 q2039 q2040 q126 q2041
abbrev Ob_could (Inv : Option TD → CS → Option (Nat → Nat) → MS → Prop) : Prop := ObI Inv (fun post tw S => w1_could post tw S) (fun post tw S => w6_could post tw S)
set_option maxHeartbeats 4000000 in
theorem lc_37 {Inv : Option TD → CS → Option (Nat → Nat) → MS → Prop} {w0 t0 : Option Nat} {tw : Option TD} {S : CS} {rdv : Option Nat} {tw' : Option (Nat → Nat)} {S' : MS} {ov : Nat → Int64} (hC : CX RX0 cL_law 7 (some .boolean) D gCl nwG Z Hb A p s m args meth c) (hX : va_X b L xs s s.heap) (hbl : b < s.heap.size) (hbA : ¬ A b) (h1 : vp_in (x4 + 1) L) (h2 : vp_in (x4 + 2) L) (h3 : vp_in (x4 + 3) L) (h4 : vp_in (x4 + 4) L) (h5 : vp_in (x4 + 5) L) (hcl : cells + 4644 ≤ 1200128) (hsl : slots + 27909 ≤ 5501098)
    (hO : Ob_could Inv) (hI : Inv tw S tw' S') (hP : va_P D gCl (wL D ad am ao rf w0 t0 tw S rdv tw' S' ov) H) (hD : va_D A (wL D ad am ao rf w0 t0 tw S rdv tw' S' ov)) (hS : va_S A s.heap H locs) (hl : lv_has ls 7 (lL b ad am ao x4))
    (next : ∀ (w0 t0 : Option Nat) (tw : Option TD) (S : CS) (rdv : Option Nat) (tw' : Option (Nat → Nat)) (S' : MS) (ov : Nat → Int64) (H : Heap) (locs : List Loc) (ls : Array Slot), Inv tw S tw' S' → va_P D gCl (wL D ad am ao rf w0 t0 tw S rdv tw' S' ov) H → va_D A (wL D ad am ao rf w0 t0 tw S rdv tw' S' ov) → va_S A s.heap H locs → lv_has ls 7 (lL b ad am ao x4) → W p l e room_1 s m args below meth c H locs (cells + 4644) (slots + 27909) Q (F0 m 2315 ls [])) :
    W p l e room_1 s m args below meth c H locs cells slots Q (F0 m 1513 ls []) := by
  obtain ⟨r, C2, M2, g1, g2, g3⟩ := hO tw S tw' S' hI
  refine lv_aload_n hC.x hC.b dL_law_1513 rfl (lv_at hl 3 rfl) ?_
  refine fg_i hC (fr_V (rest := []) (As := []) hC (m1_could l g1) vL_1_could h1_could 0 0 gCl_X1 rfl rfl ⟨rfl, rfl, Nat.le_of_ble_eq_true rfl, Nat.le_of_ble_eq_true rfl⟩ ⟨by show _ ≤ 1200128; omega, by show _ ≤ 5501098; omega⟩ hP hD hl.1 (Nat.le_of_ble_eq_true rfl) dL_law_1514 rfl) hP hD hS (fun r1 u1 H locs f1 hP hD hS => ?_)
  have hP := w3_P hP
  have hD := w3_D hD
  refine lv_aload_n hC.x hC.b dL_law_1517 rfl (lv_at hl 2 rfl) ?_
  refine fg_i hC (fr_V (rest := [.int r1]) (As := []) hC (m6_could l g2) vL_6_could h6_could 0 5 gCl_X6 rfl rfl ⟨rfl, rfl, Nat.le_of_ble_eq_true rfl, Nat.le_of_ble_eq_true rfl⟩ ⟨by show _ ≤ 1200128; omega, by show _ ≤ 5501098; omega⟩ hP hD hl.1 (Nat.le_of_ble_eq_true rfl) dL_law_1518 rfl) hP hD hS (fun r2 u2 H locs f2 hP hD hS => ?_)
  have hP := w3_P (w3_P hP)
  have hD := w3_D (w3_D hD)
  obtain ⟨rfl, f1⟩ := f1
  obtain ⟨rfl, f2⟩ := f2
  refine lv_icmp_eq (tgt := 2315) hC.x hC.b dL_law_1521 (by decide) (fun _ => ?_) (fun c => absurd rfl c)
  refine W.widen (k := cells + 4644) (n := slots + 27909) (by omega) (by omega) ?_
  exact next _ _ _ _ _ _ _ _ _ _ ls (g3 _ _ f1 f2) hP hD hS hl
theorem vL_1_surely : GoodIn lw_all (wsV RX0 175 RX1 yX1_surely (ws_ yX1_surely cX1_surely 1 (some .int))) := lw_V q1220 q1221 q1222 q118 q1223
theorem vL_6_surely : GoodIn lw_all (wsV RX0 178 RX6 yX6_surely (ws_ yX6_surely cX6_surely 1 (some .int))) := lw_V q2042 q2043 q2044 q126 q2045
abbrev Ob_surely (Inv : Option TD → CS → Option (Nat → Nat) → MS → Prop) : Prop := ObI Inv (fun post tw S => w1_surely post tw S) (fun post tw S => w6_surely post tw S)
set_option maxHeartbeats 4000000 in
theorem lc_38 {Inv : Option TD → CS → Option (Nat → Nat) → MS → Prop} {w0 t0 : Option Nat} {tw : Option TD} {S : CS} {rdv : Option Nat} {tw' : Option (Nat → Nat)} {S' : MS} {ov : Nat → Int64} (hC : CX RX0 cL_law 7 (some .boolean) D gCl nwG Z Hb A p s m args meth c) (hX : va_X b L xs s s.heap) (hbl : b < s.heap.size) (hbA : ¬ A b) (h1 : vp_in (x4 + 1) L) (h2 : vp_in (x4 + 2) L) (h3 : vp_in (x4 + 3) L) (h4 : vp_in (x4 + 4) L) (h5 : vp_in (x4 + 5) L) (hcl : cells + 4644 ≤ 1200128) (hsl : slots + 27909 ≤ 5501098)
    (hO : Ob_surely Inv) (hI : Inv tw S tw' S') (hP : va_P D gCl (wL D ad am ao rf w0 t0 tw S rdv tw' S' ov) H) (hD : va_D A (wL D ad am ao rf w0 t0 tw S rdv tw' S' ov)) (hS : va_S A s.heap H locs) (hl : lv_has ls 7 (lL b ad am ao x4))
    (next : ∀ (w0 t0 : Option Nat) (tw : Option TD) (S : CS) (rdv : Option Nat) (tw' : Option (Nat → Nat)) (S' : MS) (ov : Nat → Int64) (H : Heap) (locs : List Loc) (ls : Array Slot), Inv tw S tw' S' → va_P D gCl (wL D ad am ao rf w0 t0 tw S rdv tw' S' ov) H → va_D A (wL D ad am ao rf w0 t0 tw S rdv tw' S' ov) → va_S A s.heap H locs → lv_has ls 7 (lL b ad am ao x4) → W p l e room_1 s m args below meth c H locs (cells + 4644) (slots + 27909) Q (F0 m 2315 ls [])) :
    W p l e room_1 s m args below meth c H locs cells slots Q (F0 m 1526 ls []) := by
  obtain ⟨r, C2, M2, g1, g2, g3⟩ := hO tw S tw' S' hI
  refine lv_aload_n hC.x hC.b dL_law_1526 rfl (lv_at hl 3 rfl) ?_
  refine fg_i hC (fr_V (rest := []) (As := []) hC (m1_surely l g1) vL_1_surely h1_surely 0 0 gCl_X1 rfl rfl ⟨rfl, rfl, Nat.le_of_ble_eq_true rfl, Nat.le_of_ble_eq_true rfl⟩ ⟨by show _ ≤ 1200128; omega, by show _ ≤ 5501098; omega⟩ hP hD hl.1 (Nat.le_of_ble_eq_true rfl) dL_law_1527 rfl) hP hD hS (fun r1 u1 H locs f1 hP hD hS => ?_)
  have hP := w3_P hP
  have hD := w3_D hD
  refine lv_aload_n hC.x hC.b dL_law_1530 rfl (lv_at hl 2 rfl) ?_
  refine fg_i hC (fr_V (rest := [.int r1]) (As := []) hC (m6_surely l g2) vL_6_surely h6_surely 0 5 gCl_X6 rfl rfl ⟨rfl, rfl, Nat.le_of_ble_eq_true rfl, Nat.le_of_ble_eq_true rfl⟩ ⟨by show _ ≤ 1200128; omega, by show _ ≤ 5501098; omega⟩ hP hD hl.1 (Nat.le_of_ble_eq_true rfl) dL_law_1531 rfl) hP hD hS (fun r2 u2 H locs f2 hP hD hS => ?_)
  have hP := w3_P (w3_P hP)
  have hD := w3_D (w3_D hD)
  obtain ⟨rfl, f1⟩ := f1
  obtain ⟨rfl, f2⟩ := f2
  refine lv_icmp_eq (tgt := 2315) hC.x hC.b dL_law_1534 (by decide) (fun _ => ?_) (fun c => absurd rfl c)
  refine W.widen (k := cells + 4644) (n := slots + 27909) (by omega) (by omega) ?_
  exact next _ _ _ _ _ _ _ _ _ _ ls (g3 _ _ f1 f2) hP hD hS hl
theorem vL_1_ask : GoodIn lw_all (wsV RX0 179 RX1 yX1_ask (ws_ yX1_ask cX1_ask 1 (some .int))) := lw_V q1224 q1225 q1226 q118 q1227
theorem vL_6_ask : GoodIn lw_all (wsV RX0 182 RX6 yX6_ask (ws_ yX6_ask cX6_ask 1 (some .int))) := lw_V q2046 q2047 q2048 q126 q2049
abbrev Ob_ask (Inv : Option TD → CS → Option (Nat → Nat) → MS → Prop) : Prop := ObI Inv (fun post tw S => w1_ask post tw S) (fun post tw S => w6_ask post tw S)
set_option maxHeartbeats 4000000 in
theorem lc_39 {Inv : Option TD → CS → Option (Nat → Nat) → MS → Prop} {w0 t0 : Option Nat} {tw : Option TD} {S : CS} {rdv : Option Nat} {tw' : Option (Nat → Nat)} {S' : MS} {ov : Nat → Int64} (hC : CX RX0 cL_law 7 (some .boolean) D gCl nwG Z Hb A p s m args meth c) (hX : va_X b L xs s s.heap) (hbl : b < s.heap.size) (hbA : ¬ A b) (h1 : vp_in (x4 + 1) L) (h2 : vp_in (x4 + 2) L) (h3 : vp_in (x4 + 3) L) (h4 : vp_in (x4 + 4) L) (h5 : vp_in (x4 + 5) L) (hcl : cells + 4644 ≤ 1200128) (hsl : slots + 27909 ≤ 5501098)
    (hO : Ob_ask Inv) (hI : Inv tw S tw' S') (hP : va_P D gCl (wL D ad am ao rf w0 t0 tw S rdv tw' S' ov) H) (hD : va_D A (wL D ad am ao rf w0 t0 tw S rdv tw' S' ov)) (hS : va_S A s.heap H locs) (hl : lv_has ls 7 (lL b ad am ao x4))
    (next : ∀ (w0 t0 : Option Nat) (tw : Option TD) (S : CS) (rdv : Option Nat) (tw' : Option (Nat → Nat)) (S' : MS) (ov : Nat → Int64) (H : Heap) (locs : List Loc) (ls : Array Slot), Inv tw S tw' S' → va_P D gCl (wL D ad am ao rf w0 t0 tw S rdv tw' S' ov) H → va_D A (wL D ad am ao rf w0 t0 tw S rdv tw' S' ov) → va_S A s.heap H locs → lv_has ls 7 (lL b ad am ao x4) → W p l e room_1 s m args below meth c H locs (cells + 4644) (slots + 27909) Q (F0 m 2315 ls [])) :
    W p l e room_1 s m args below meth c H locs cells slots Q (F0 m 1539 ls []) := by
  obtain ⟨r, C2, M2, g1, g2, g3⟩ := hO tw S tw' S' hI
  refine lv_aload_n hC.x hC.b dL_law_1539 rfl (lv_at hl 3 rfl) ?_
  refine fg_i hC (fr_V (rest := []) (As := []) hC (m1_ask l g1) vL_1_ask h1_ask 0 0 gCl_X1 rfl rfl ⟨rfl, rfl, Nat.le_of_ble_eq_true rfl, Nat.le_of_ble_eq_true rfl⟩ ⟨by show _ ≤ 1200128; omega, by show _ ≤ 5501098; omega⟩ hP hD hl.1 (Nat.le_of_ble_eq_true rfl) dL_law_1540 rfl) hP hD hS (fun r1 u1 H locs f1 hP hD hS => ?_)
  have hP := w3_P hP
  have hD := w3_D hD
  refine lv_aload_n hC.x hC.b dL_law_1543 rfl (lv_at hl 2 rfl) ?_
  refine fg_i hC (fr_V (rest := [.int r1]) (As := []) hC (m6_ask l g2) vL_6_ask h6_ask 0 5 gCl_X6 rfl rfl ⟨rfl, rfl, Nat.le_of_ble_eq_true rfl, Nat.le_of_ble_eq_true rfl⟩ ⟨by show _ ≤ 1200128; omega, by show _ ≤ 5501098; omega⟩ hP hD hl.1 (Nat.le_of_ble_eq_true rfl) dL_law_1544 rfl) hP hD hS (fun r2 u2 H locs f2 hP hD hS => ?_)
  have hP := w3_P (w3_P hP)
  have hD := w3_D (w3_D hD)
  obtain ⟨rfl, f1⟩ := f1
  obtain ⟨rfl, f2⟩ := f2
  refine lv_icmp_eq (tgt := 2315) hC.x hC.b dL_law_1547 (by decide) (fun _ => ?_) (fun c => absurd rfl c)
  refine W.widen (k := cells + 4644) (n := slots + 27909) (by omega) (by omega) ?_
  exact next _ _ _ _ _ _ _ _ _ _ ls (g3 _ _ f1 f2) hP hD hS hl
theorem vL_1_askLeaves : GoodIn lw_all (wsV RX0 183 RX1 yX1_askLeaves (ws_ yX1_askLeaves cX1_askLeaves 2 (some .int))) := lw_V q1237 q1238 q1239 q118 q1240
theorem vL_6_askLeaves : GoodIn lw_all (wsV RX0 186 RX6 yX6_askLeaves (ws_ yX6_askLeaves cX6_askLeaves 1 (some .int))) := lw_V q2054 q2055 q2056 q126 q2057
abbrev Ob_askLeaves (Inv : Option TD → CS → Option (Nat → Nat) → MS → Prop) : Prop := ObI Inv (fun post tw S => w1_askLeaves post tw S) (fun post tw S => w6_askLeaves post tw S)
set_option maxHeartbeats 4000000 in
theorem lc_40 {Inv : Option TD → CS → Option (Nat → Nat) → MS → Prop} {w0 t0 : Option Nat} {tw : Option TD} {S : CS} {rdv : Option Nat} {tw' : Option (Nat → Nat)} {S' : MS} {ov : Nat → Int64} (hC : CX RX0 cL_law 7 (some .boolean) D gCl nwG Z Hb A p s m args meth c) (hX : va_X b L xs s s.heap) (hbl : b < s.heap.size) (hbA : ¬ A b) (h1 : vp_in (x4 + 1) L) (h2 : vp_in (x4 + 2) L) (h3 : vp_in (x4 + 3) L) (h4 : vp_in (x4 + 4) L) (h5 : vp_in (x4 + 5) L) (hcl : cells + 4644 ≤ 1200128) (hsl : slots + 27909 ≤ 5501098)
    (hO : Ob_askLeaves Inv) (hI : Inv tw S tw' S') (hP : va_P D gCl (wL D ad am ao rf w0 t0 tw S rdv tw' S' ov) H) (hD : va_D A (wL D ad am ao rf w0 t0 tw S rdv tw' S' ov)) (hS : va_S A s.heap H locs) (hl : lv_has ls 7 (lL b ad am ao x4))
    (next : ∀ (w0 t0 : Option Nat) (tw : Option TD) (S : CS) (rdv : Option Nat) (tw' : Option (Nat → Nat)) (S' : MS) (ov : Nat → Int64) (H : Heap) (locs : List Loc) (ls : Array Slot), Inv tw S tw' S' → va_P D gCl (wL D ad am ao rf w0 t0 tw S rdv tw' S' ov) H → va_D A (wL D ad am ao rf w0 t0 tw S rdv tw' S' ov) → va_S A s.heap H locs → lv_has ls 7 (lL b ad am ao x4) → W p l e room_1 s m args below meth c H locs (cells + 4644) (slots + 27909) Q (F0 m 2315 ls [])) :
    W p l e room_1 s m args below meth c H locs cells slots Q (F0 m 1552 ls []) := by
  obtain ⟨r, C2, M2, g1, g2, g3⟩ := hO tw S tw' S' hI
  refine lv_aload_n hC.x hC.b dL_law_1552 rfl (lv_at hl 3 rfl) ?_
  refine fg_i hC (fr_V (rest := []) (As := []) hC (m1_askLeaves l g1) vL_1_askLeaves h1_askLeaves 0 0 gCl_X1 rfl rfl ⟨rfl, rfl, Nat.le_of_ble_eq_true rfl, Nat.le_of_ble_eq_true rfl⟩ ⟨by show _ ≤ 1200128; omega, by show _ ≤ 5501098; omega⟩ hP hD hl.1 (Nat.le_of_ble_eq_true rfl) dL_law_1553 rfl) hP hD hS (fun r1 u1 H locs f1 hP hD hS => ?_)
  have hP := w3_P hP
  have hD := w3_D hD
  refine lv_aload_n hC.x hC.b dL_law_1556 rfl (lv_at hl 2 rfl) ?_
  refine fg_i hC (fr_V (rest := [.int r1]) (As := []) hC (m6_askLeaves l g2) vL_6_askLeaves h6_askLeaves 0 5 gCl_X6 rfl rfl ⟨rfl, rfl, Nat.le_of_ble_eq_true rfl, Nat.le_of_ble_eq_true rfl⟩ ⟨by show _ ≤ 1200128; omega, by show _ ≤ 5501098; omega⟩ hP hD hl.1 (Nat.le_of_ble_eq_true rfl) dL_law_1557 rfl) hP hD hS (fun r2 u2 H locs f2 hP hD hS => ?_)
  have hP := w3_P (w3_P hP)
  have hD := w3_D (w3_D hD)
  obtain ⟨rfl, f1⟩ := f1
  obtain ⟨rfl, f2⟩ := f2
  refine lv_icmp_eq (tgt := 2315) hC.x hC.b dL_law_1560 (by decide) (fun _ => ?_) (fun c => absurd rfl c)
  refine W.widen (k := cells + 4644) (n := slots + 27909) (by omega) (by omega) ?_
  exact next _ _ _ _ _ _ _ _ _ _ ls (g3 _ _ f1 f2) hP hD hS hl
theorem vL_1_judge : GoodIn lw_all (wsV RX0 187 RX1 yX1_judge (ws_ yX1_judge cX1_judge 1 (some .int))) := lw_V q1241 q1242 q1243 q118 q1244
theorem vL_6_judge : GoodIn lw_all (wsV RX0 190 RX6 yX6_judge (ws_ yX6_judge cX6_judge 1 (some .int))) := lw_V q2058 q2059 q2060 q126 q2061
abbrev Ob_judge (Inv : Option TD → CS → Option (Nat → Nat) → MS → Prop) : Prop := ObI Inv (fun post tw S => w1_judge post tw S) (fun post tw S => w6_judge post tw S)
set_option maxHeartbeats 4000000 in
theorem lc_41 {Inv : Option TD → CS → Option (Nat → Nat) → MS → Prop} {w0 t0 : Option Nat} {tw : Option TD} {S : CS} {rdv : Option Nat} {tw' : Option (Nat → Nat)} {S' : MS} {ov : Nat → Int64} (hC : CX RX0 cL_law 7 (some .boolean) D gCl nwG Z Hb A p s m args meth c) (hX : va_X b L xs s s.heap) (hbl : b < s.heap.size) (hbA : ¬ A b) (h1 : vp_in (x4 + 1) L) (h2 : vp_in (x4 + 2) L) (h3 : vp_in (x4 + 3) L) (h4 : vp_in (x4 + 4) L) (h5 : vp_in (x4 + 5) L) (hcl : cells + 4644 ≤ 1200128) (hsl : slots + 27909 ≤ 5501098)
    (hO : Ob_judge Inv) (hI : Inv tw S tw' S') (hP : va_P D gCl (wL D ad am ao rf w0 t0 tw S rdv tw' S' ov) H) (hD : va_D A (wL D ad am ao rf w0 t0 tw S rdv tw' S' ov)) (hS : va_S A s.heap H locs) (hl : lv_has ls 7 (lL b ad am ao x4))
    (next : ∀ (w0 t0 : Option Nat) (tw : Option TD) (S : CS) (rdv : Option Nat) (tw' : Option (Nat → Nat)) (S' : MS) (ov : Nat → Int64) (H : Heap) (locs : List Loc) (ls : Array Slot), Inv tw S tw' S' → va_P D gCl (wL D ad am ao rf w0 t0 tw S rdv tw' S' ov) H → va_D A (wL D ad am ao rf w0 t0 tw S rdv tw' S' ov) → va_S A s.heap H locs → lv_has ls 7 (lL b ad am ao x4) → W p l e room_1 s m args below meth c H locs (cells + 4644) (slots + 27909) Q (F0 m 2315 ls [])) :
    W p l e room_1 s m args below meth c H locs cells slots Q (F0 m 1565 ls []) := by
  obtain ⟨r, C2, M2, g1, g2, g3⟩ := hO tw S tw' S' hI
  refine lv_aload_n hC.x hC.b dL_law_1565 rfl (lv_at hl 3 rfl) ?_
  refine fg_i hC (fr_V (rest := []) (As := []) hC (m1_judge l g1) vL_1_judge h1_judge 0 0 gCl_X1 rfl rfl ⟨rfl, rfl, Nat.le_of_ble_eq_true rfl, Nat.le_of_ble_eq_true rfl⟩ ⟨by show _ ≤ 1200128; omega, by show _ ≤ 5501098; omega⟩ hP hD hl.1 (Nat.le_of_ble_eq_true rfl) dL_law_1566 rfl) hP hD hS (fun r1 u1 H locs f1 hP hD hS => ?_)
  have hP := w3_P hP
  have hD := w3_D hD
  refine lv_aload_n hC.x hC.b dL_law_1569 rfl (lv_at hl 2 rfl) ?_
  refine fg_i hC (fr_V (rest := [.int r1]) (As := []) hC (m6_judge l g2) vL_6_judge h6_judge 0 5 gCl_X6 rfl rfl ⟨rfl, rfl, Nat.le_of_ble_eq_true rfl, Nat.le_of_ble_eq_true rfl⟩ ⟨by show _ ≤ 1200128; omega, by show _ ≤ 5501098; omega⟩ hP hD hl.1 (Nat.le_of_ble_eq_true rfl) dL_law_1570 rfl) hP hD hS (fun r2 u2 H locs f2 hP hD hS => ?_)
  have hP := w3_P (w3_P hP)
  have hD := w3_D (w3_D hD)
  obtain ⟨rfl, f1⟩ := f1
  obtain ⟨rfl, f2⟩ := f2
  refine lv_icmp_eq (tgt := 2315) hC.x hC.b dL_law_1573 (by decide) (fun _ => ?_) (fun c => absurd rfl c)
  refine W.widen (k := cells + 4644) (n := slots + 27909) (by omega) (by omega) ?_
  exact next _ _ _ _ _ _ _ _ _ _ ls (g3 _ _ f1 f2) hP hD hS hl
theorem vL_1_chat : GoodIn lw_all (wsV RX0 191 RX1 yX1_chat (ws_ yX1_chat cX1_chat 5 (some .int))) := lw_V q1245 q1246 q1247 q118 q1248
theorem vL_6_chat : GoodIn lw_all (wsV RX0 195 RX6 yX6_chat (ws_ yX6_chat cX6_chat 6 (some .int))) := lw_V q2062 q2063 q2064 q126 q2065
abbrev Ob_chat (Inv : Option TD → CS → Option (Nat → Nat) → MS → Prop) (a0 a1 a2 a3 : Int32) : Prop := ObI Inv (fun post tw S => w1_chat post tw S a0 a1 a2 a3) (fun post tw S => w6_chat post tw S a0 a1 a2 a3)
set_option maxHeartbeats 4000000 in
theorem lc_42 {Inv : Option TD → CS → Option (Nat → Nat) → MS → Prop} {w0 t0 : Option Nat} {tw : Option TD} {S : CS} {rdv : Option Nat} {tw' : Option (Nat → Nat)} {S' : MS} {ov : Nat → Int64} (hC : CX RX0 cL_law 7 (some .boolean) D gCl nwG Z Hb A p s m args meth c) (hX : va_X b L xs s s.heap) (hbl : b < s.heap.size) (hbA : ¬ A b) (h1 : vp_in (x4 + 1) L) (h2 : vp_in (x4 + 2) L) (h3 : vp_in (x4 + 3) L) (h4 : vp_in (x4 + 4) L) (h5 : vp_in (x4 + 5) L) (hcl : cells + 4644 ≤ 1200128) (hsl : slots + 27909 ≤ 5501098)
    (hO : Ob_chat Inv (xs (x4 + 1).toNatClampNeg) (bz (xs (x4 + 2).toNatClampNeg)) (bz (xs (x4 + 3).toNatClampNeg)) (bz (xs (x4 + 4).toNatClampNeg))) (hI : Inv tw S tw' S') (hP : va_P D gCl (wL D ad am ao rf w0 t0 tw S rdv tw' S' ov) H) (hD : va_D A (wL D ad am ao rf w0 t0 tw S rdv tw' S' ov)) (hS : va_S A s.heap H locs) (hl : lv_has ls 7 (lL b ad am ao x4))
    (next : ∀ (w0 t0 : Option Nat) (tw : Option TD) (S : CS) (rdv : Option Nat) (tw' : Option (Nat → Nat)) (S' : MS) (ov : Nat → Int64) (H : Heap) (locs : List Loc) (ls : Array Slot), Inv tw S tw' S' → va_P D gCl (wL D ad am ao rf w0 t0 tw S rdv tw' S' ov) H → va_D A (wL D ad am ao rf w0 t0 tw S rdv tw' S' ov) → va_S A s.heap H locs → lv_has ls 7 (lL b ad am ao x4) → W p l e room_1 s m args below meth c H locs (cells + 4644) (slots + 27909) Q (F0 m 2315 ls [])) :
    W p l e room_1 s m args below meth c H locs cells slots Q (F0 m 1578 ls []) := by
  obtain ⟨r, C2, M2, g1, g2, g3⟩ := hO tw S tw' S' hI
  refine lv_aload_n hC.x hC.b dL_law_1578 rfl (lv_at hl 3 rfl) ?_
  refine lv_aload_n hC.x hC.b dL_law_1579 rfl (lv_at hl 4 rfl) ?_
  refine lv_iload hC.x hC.b dL_law_1580 (lv_at hl 0 rfl) ?_
  refine lv_iconst (v := 1) hC.x hC.b dL_law_1582 (by decide) ?_
  refine lv_iadd hC.x hC.b dL_law_1583 ?_
  refine va_sld hC.x hC.b hX hbl hbA hS h1 dL_law_1584 ?_
  refine lv_aload_n hC.x hC.b dL_law_1585 rfl (lv_at hl 4 rfl) ?_
  refine lv_iload hC.x hC.b dL_law_1586 (lv_at hl 0 rfl) ?_
  refine lv_iconst (v := 2) hC.x hC.b dL_law_1588 (by decide) ?_
  refine lv_iadd hC.x hC.b dL_law_1589 ?_
  refine va_sld hC.x hC.b hX hbl hbA hS h2 dL_law_1590 ?_
  refine lv_bz (p1 := 1598) (p2 := 1599) hC.x hC.b dL_law_1591 (by decide) dL_law_1594 dL_law_1595 (by decide) dL_law_1598 rfl ?_
  refine lv_aload_n hC.x hC.b dL_law_1599 rfl (lv_at hl 4 rfl) ?_
  refine lv_iload hC.x hC.b dL_law_1600 (lv_at hl 0 rfl) ?_
  refine lv_iconst (v := 3) hC.x hC.b dL_law_1602 (by decide) ?_
  refine lv_iadd hC.x hC.b dL_law_1603 ?_
  refine va_sld hC.x hC.b hX hbl hbA hS h3 dL_law_1604 ?_
  refine lv_bz (p1 := 1612) (p2 := 1613) hC.x hC.b dL_law_1605 (by decide) dL_law_1608 dL_law_1609 (by decide) dL_law_1612 rfl ?_
  refine lv_aload_n hC.x hC.b dL_law_1613 rfl (lv_at hl 4 rfl) ?_
  refine lv_iload hC.x hC.b dL_law_1614 (lv_at hl 0 rfl) ?_
  refine lv_iconst (v := 4) hC.x hC.b dL_law_1616 (by decide) ?_
  refine lv_iadd hC.x hC.b dL_law_1617 ?_
  refine va_sld hC.x hC.b hX hbl hbA hS h4 dL_law_1618 ?_
  refine lv_bz (p1 := 1626) (p2 := 1627) hC.x hC.b dL_law_1619 (by decide) dL_law_1622 dL_law_1623 (by decide) dL_law_1626 rfl ?_
  refine fg_i hC (fr_V (rest := []) (As := [.int (xs (x4 + 1).toNatClampNeg), .int (bz (xs (x4 + 2).toNatClampNeg)), .int (bz (xs (x4 + 3).toNatClampNeg)), .int (bz (xs (x4 + 4).toNatClampNeg))]) hC (m1_chat l g1) vL_1_chat h1_chat 0 0 gCl_X1 rfl rfl ⟨rfl, rfl, Nat.le_of_ble_eq_true rfl, Nat.le_of_ble_eq_true rfl⟩ ⟨by show _ ≤ 1200128; omega, by show _ ≤ 5501098; omega⟩ hP hD hl.1 (Nat.le_of_ble_eq_true rfl) dL_law_1627 rfl) hP hD hS (fun r1 u1 H locs f1 hP hD hS => ?_)
  have hP := w3_P hP
  have hD := w3_D hD
  refine lv_aload_n hC.x hC.b dL_law_1630 rfl (lv_at hl 2 rfl) ?_
  refine lv_aload_n hC.x hC.b dL_law_1631 rfl (lv_at hl 4 rfl) ?_
  refine lv_iload hC.x hC.b dL_law_1632 (lv_at hl 0 rfl) ?_
  refine lv_iconst (v := 1) hC.x hC.b dL_law_1634 (by decide) ?_
  refine lv_iadd hC.x hC.b dL_law_1635 ?_
  refine va_sld hC.x hC.b hX hbl hbA hS h1 dL_law_1636 ?_
  refine lv_aload_n hC.x hC.b dL_law_1637 rfl (lv_at hl 4 rfl) ?_
  refine lv_iload hC.x hC.b dL_law_1638 (lv_at hl 0 rfl) ?_
  refine lv_iconst (v := 2) hC.x hC.b dL_law_1640 (by decide) ?_
  refine lv_iadd hC.x hC.b dL_law_1641 ?_
  refine va_sld hC.x hC.b hX hbl hbA hS h2 dL_law_1642 ?_
  refine lv_bz (p1 := 1650) (p2 := 1651) hC.x hC.b dL_law_1643 (by decide) dL_law_1646 dL_law_1647 (by decide) dL_law_1650 rfl ?_
  refine lv_aload_n hC.x hC.b dL_law_1651 rfl (lv_at hl 4 rfl) ?_
  refine lv_iload hC.x hC.b dL_law_1652 (lv_at hl 0 rfl) ?_
  refine lv_iconst (v := 3) hC.x hC.b dL_law_1654 (by decide) ?_
  refine lv_iadd hC.x hC.b dL_law_1655 ?_
  refine va_sld hC.x hC.b hX hbl hbA hS h3 dL_law_1656 ?_
  refine lv_bz (p1 := 1664) (p2 := 1665) hC.x hC.b dL_law_1657 (by decide) dL_law_1660 dL_law_1661 (by decide) dL_law_1664 rfl ?_
  refine lv_aload_n hC.x hC.b dL_law_1665 rfl (lv_at hl 4 rfl) ?_
  refine lv_iload hC.x hC.b dL_law_1666 (lv_at hl 0 rfl) ?_
  refine lv_iconst (v := 4) hC.x hC.b dL_law_1668 (by decide) ?_
  refine lv_iadd hC.x hC.b dL_law_1669 ?_
  refine va_sld hC.x hC.b hX hbl hbA hS h4 dL_law_1670 ?_
  refine lv_bz (p1 := 1678) (p2 := 1679) hC.x hC.b dL_law_1671 (by decide) dL_law_1674 dL_law_1675 (by decide) dL_law_1678 rfl ?_
  refine fg_i hC (fr_V (rest := [.int r1]) (As := [.int (xs (x4 + 1).toNatClampNeg), .int (bz (xs (x4 + 2).toNatClampNeg)), .int (bz (xs (x4 + 3).toNatClampNeg)), .int (bz (xs (x4 + 4).toNatClampNeg))]) hC (m6_chat l g2) vL_6_chat h6_chat 0 5 gCl_X6 rfl rfl ⟨rfl, rfl, Nat.le_of_ble_eq_true rfl, Nat.le_of_ble_eq_true rfl⟩ ⟨by show _ ≤ 1200128; omega, by show _ ≤ 5501098; omega⟩ hP hD hl.1 (Nat.le_of_ble_eq_true rfl) dL_law_1679 rfl) hP hD hS (fun r2 u2 H locs f2 hP hD hS => ?_)
  have hP := w3_P (w3_P hP)
  have hD := w3_D (w3_D hD)
  obtain ⟨rfl, f1⟩ := f1
  obtain ⟨rfl, f2⟩ := f2
  refine lv_icmp_eq (tgt := 2315) hC.x hC.b dL_law_1682 (by decide) (fun _ => ?_) (fun c => absurd rfl c)
  refine W.widen (k := cells + 4644) (n := slots + 27909) (by omega) (by omega) ?_
  exact next _ _ _ _ _ _ _ _ _ _ ls (g3 _ _ f1 f2) hP hD hS hl
theorem vL_1_rests : GoodIn lw_all (wsV RX0 196 RX1 yX1_rests (ws_ yX1_rests cX1_rests 3 (some .int))) := lw_V q1252 q1253 q1254 q118 q1255
theorem vL_6_rests : GoodIn lw_all (wsV RX0 199 RX6 yX6_rests (ws_ yX6_rests cX6_rests 5 (some .int))) := lw_V q2077 q2078 q2079 q126 q2080
abbrev Ob_rests (Inv : Option TD → CS → Option (Nat → Nat) → MS → Prop) (a0 : Int32) : Prop := ObI Inv (fun post tw S => w1_rests post tw S a0) (fun post tw S => w6_rests post tw S a0)
set_option maxHeartbeats 4000000 in
theorem lc_43 {Inv : Option TD → CS → Option (Nat → Nat) → MS → Prop} {w0 t0 : Option Nat} {tw : Option TD} {S : CS} {rdv : Option Nat} {tw' : Option (Nat → Nat)} {S' : MS} {ov : Nat → Int64} (hC : CX RX0 cL_law 7 (some .boolean) D gCl nwG Z Hb A p s m args meth c) (hX : va_X b L xs s s.heap) (hbl : b < s.heap.size) (hbA : ¬ A b) (h1 : vp_in (x4 + 1) L) (h2 : vp_in (x4 + 2) L) (h3 : vp_in (x4 + 3) L) (h4 : vp_in (x4 + 4) L) (h5 : vp_in (x4 + 5) L) (hcl : cells + 4644 ≤ 1200128) (hsl : slots + 27909 ≤ 5501098)
    (hO : Ob_rests Inv (xs (x4 + 1).toNatClampNeg)) (hI : Inv tw S tw' S') (hP : va_P D gCl (wL D ad am ao rf w0 t0 tw S rdv tw' S' ov) H) (hD : va_D A (wL D ad am ao rf w0 t0 tw S rdv tw' S' ov)) (hS : va_S A s.heap H locs) (hl : lv_has ls 7 (lL b ad am ao x4))
    (next : ∀ (w0 t0 : Option Nat) (tw : Option TD) (S : CS) (rdv : Option Nat) (tw' : Option (Nat → Nat)) (S' : MS) (ov : Nat → Int64) (H : Heap) (locs : List Loc) (ls : Array Slot), Inv tw S tw' S' → va_P D gCl (wL D ad am ao rf w0 t0 tw S rdv tw' S' ov) H → va_D A (wL D ad am ao rf w0 t0 tw S rdv tw' S' ov) → va_S A s.heap H locs → lv_has ls 7 (lL b ad am ao x4) → W p l e room_1 s m args below meth c H locs (cells + 4644) (slots + 27909) Q (F0 m 2315 ls [])) :
    W p l e room_1 s m args below meth c H locs cells slots Q (F0 m 1687 ls []) := by
  obtain ⟨r, C2, M2, g1, g2, g3⟩ := hO tw S tw' S' hI
  refine lv_aload_n hC.x hC.b dL_law_1687 rfl (lv_at hl 3 rfl) ?_
  refine lv_aload_n hC.x hC.b dL_law_1688 rfl (lv_at hl 4 rfl) ?_
  refine lv_iload hC.x hC.b dL_law_1689 (lv_at hl 0 rfl) ?_
  refine lv_iconst (v := 1) hC.x hC.b dL_law_1691 (by decide) ?_
  refine lv_iadd hC.x hC.b dL_law_1692 ?_
  refine va_sld hC.x hC.b hX hbl hbA hS h1 dL_law_1693 ?_
  refine fg_i hC (fr_V (rest := []) (As := [.int (xs (x4 + 1).toNatClampNeg)]) hC (m1_rests l g1) vL_1_rests h1_rests 0 0 gCl_X1 rfl rfl ⟨rfl, rfl, Nat.le_of_ble_eq_true rfl, Nat.le_of_ble_eq_true rfl⟩ ⟨by show _ ≤ 1200128; omega, by show _ ≤ 5501098; omega⟩ hP hD hl.1 (Nat.le_of_ble_eq_true rfl) dL_law_1694 rfl) hP hD hS (fun r1 u1 H locs f1 hP hD hS => ?_)
  have hP := w3_P hP
  have hD := w3_D hD
  refine lv_aload_n hC.x hC.b dL_law_1697 rfl (lv_at hl 2 rfl) ?_
  refine lv_aload_n hC.x hC.b dL_law_1698 rfl (lv_at hl 4 rfl) ?_
  refine lv_iload hC.x hC.b dL_law_1699 (lv_at hl 0 rfl) ?_
  refine lv_iconst (v := 1) hC.x hC.b dL_law_1701 (by decide) ?_
  refine lv_iadd hC.x hC.b dL_law_1702 ?_
  refine va_sld hC.x hC.b hX hbl hbA hS h1 dL_law_1703 ?_
  refine fg_i hC (fr_V (rest := [.int r1]) (As := [.int (xs (x4 + 1).toNatClampNeg)]) hC (m6_rests l g2) vL_6_rests h6_rests 0 5 gCl_X6 rfl rfl ⟨rfl, rfl, Nat.le_of_ble_eq_true rfl, Nat.le_of_ble_eq_true rfl⟩ ⟨by show _ ≤ 1200128; omega, by show _ ≤ 5501098; omega⟩ hP hD hl.1 (Nat.le_of_ble_eq_true rfl) dL_law_1704 rfl) hP hD hS (fun r2 u2 H locs f2 hP hD hS => ?_)
  have hP := w3_P (w3_P hP)
  have hD := w3_D (w3_D hD)
  obtain ⟨rfl, f1⟩ := f1
  obtain ⟨rfl, f2⟩ := f2
  refine lv_icmp_eq (tgt := 2315) hC.x hC.b dL_law_1707 (by decide) (fun _ => ?_) (fun c => absurd rfl c)
  refine W.widen (k := cells + 4644) (n := slots + 27909) (by omega) (by omega) ?_
  exact next _ _ _ _ _ _ _ _ _ _ ls (g3 _ _ f1 f2) hP hD hS hl
theorem vL_1_rest : GoodIn lw_all (wsV RX0 200 RX1 yX1_rest (ws_ yX1_rest cX1_rest 3 (some .int))) := lw_V q1263 q1264 q1265 q118 q1266
theorem vL_6_rest : GoodIn lw_all (wsV RX0 203 RX6 yX6_rest (ws_ yX6_rest cX6_rest 4 (some .int))) := lw_V q2084 q2085 q2086 q126 q2087
abbrev Ob_rest (Inv : Option TD → CS → Option (Nat → Nat) → MS → Prop) (a0 : Int32) : Prop := ObI Inv (fun post tw S => w1_rest post tw S a0) (fun post tw S => w6_rest post tw S a0)
set_option maxHeartbeats 4000000 in
theorem lc_44 {Inv : Option TD → CS → Option (Nat → Nat) → MS → Prop} {w0 t0 : Option Nat} {tw : Option TD} {S : CS} {rdv : Option Nat} {tw' : Option (Nat → Nat)} {S' : MS} {ov : Nat → Int64} (hC : CX RX0 cL_law 7 (some .boolean) D gCl nwG Z Hb A p s m args meth c) (hX : va_X b L xs s s.heap) (hbl : b < s.heap.size) (hbA : ¬ A b) (h1 : vp_in (x4 + 1) L) (h2 : vp_in (x4 + 2) L) (h3 : vp_in (x4 + 3) L) (h4 : vp_in (x4 + 4) L) (h5 : vp_in (x4 + 5) L) (hcl : cells + 4644 ≤ 1200128) (hsl : slots + 27909 ≤ 5501098)
    (hO : Ob_rest Inv (xs (x4 + 1).toNatClampNeg)) (hI : Inv tw S tw' S') (hP : va_P D gCl (wL D ad am ao rf w0 t0 tw S rdv tw' S' ov) H) (hD : va_D A (wL D ad am ao rf w0 t0 tw S rdv tw' S' ov)) (hS : va_S A s.heap H locs) (hl : lv_has ls 7 (lL b ad am ao x4))
    (next : ∀ (w0 t0 : Option Nat) (tw : Option TD) (S : CS) (rdv : Option Nat) (tw' : Option (Nat → Nat)) (S' : MS) (ov : Nat → Int64) (H : Heap) (locs : List Loc) (ls : Array Slot), Inv tw S tw' S' → va_P D gCl (wL D ad am ao rf w0 t0 tw S rdv tw' S' ov) H → va_D A (wL D ad am ao rf w0 t0 tw S rdv tw' S' ov) → va_S A s.heap H locs → lv_has ls 7 (lL b ad am ao x4) → W p l e room_1 s m args below meth c H locs (cells + 4644) (slots + 27909) Q (F0 m 2315 ls [])) :
    W p l e room_1 s m args below meth c H locs cells slots Q (F0 m 1712 ls []) := by
  obtain ⟨r, C2, M2, g1, g2, g3⟩ := hO tw S tw' S' hI
  refine lv_aload_n hC.x hC.b dL_law_1712 rfl (lv_at hl 3 rfl) ?_
  refine lv_aload_n hC.x hC.b dL_law_1713 rfl (lv_at hl 4 rfl) ?_
  refine lv_iload hC.x hC.b dL_law_1714 (lv_at hl 0 rfl) ?_
  refine lv_iconst (v := 1) hC.x hC.b dL_law_1716 (by decide) ?_
  refine lv_iadd hC.x hC.b dL_law_1717 ?_
  refine va_sld hC.x hC.b hX hbl hbA hS h1 dL_law_1718 ?_
  refine fg_i hC (fr_V (rest := []) (As := [.int (xs (x4 + 1).toNatClampNeg)]) hC (m1_rest l g1) vL_1_rest h1_rest 0 0 gCl_X1 rfl rfl ⟨rfl, rfl, Nat.le_of_ble_eq_true rfl, Nat.le_of_ble_eq_true rfl⟩ ⟨by show _ ≤ 1200128; omega, by show _ ≤ 5501098; omega⟩ hP hD hl.1 (Nat.le_of_ble_eq_true rfl) dL_law_1719 rfl) hP hD hS (fun r1 u1 H locs f1 hP hD hS => ?_)
  have hP := w3_P hP
  have hD := w3_D hD
  refine lv_aload_n hC.x hC.b dL_law_1722 rfl (lv_at hl 2 rfl) ?_
  refine lv_aload_n hC.x hC.b dL_law_1723 rfl (lv_at hl 4 rfl) ?_
  refine lv_iload hC.x hC.b dL_law_1724 (lv_at hl 0 rfl) ?_
  refine lv_iconst (v := 1) hC.x hC.b dL_law_1726 (by decide) ?_
  refine lv_iadd hC.x hC.b dL_law_1727 ?_
  refine va_sld hC.x hC.b hX hbl hbA hS h1 dL_law_1728 ?_
  refine fg_i hC (fr_V (rest := [.int r1]) (As := [.int (xs (x4 + 1).toNatClampNeg)]) hC (m6_rest l g2) vL_6_rest h6_rest 0 5 gCl_X6 rfl rfl ⟨rfl, rfl, Nat.le_of_ble_eq_true rfl, Nat.le_of_ble_eq_true rfl⟩ ⟨by show _ ≤ 1200128; omega, by show _ ≤ 5501098; omega⟩ hP hD hl.1 (Nat.le_of_ble_eq_true rfl) dL_law_1729 rfl) hP hD hS (fun r2 u2 H locs f2 hP hD hS => ?_)
  have hP := w3_P (w3_P hP)
  have hD := w3_D (w3_D hD)
  obtain ⟨rfl, f1⟩ := f1
  obtain ⟨rfl, f2⟩ := f2
  refine lv_icmp_eq (tgt := 2315) hC.x hC.b dL_law_1732 (by decide) (fun _ => ?_) (fun c => absurd rfl c)
  refine W.widen (k := cells + 4644) (n := slots + 27909) (by omega) (by omega) ?_
  exact next _ _ _ _ _ _ _ _ _ _ ls (g3 _ _ f1 f2) hP hD hS hl
theorem vL_1_odds : GoodIn lw_all (wsV RX0 204 RX1 yX1_odds (ws_ yX1_odds cX1_odds 7 (some .long))) := lw_V q1267 q1268 q1269 q118 q1270
theorem vL_6_odds : GoodIn lw_all (wsV RX0 208 RX6 yX6_odds (ws_ yX6_odds cX6_odds 5 (some .long))) := lw_V q2088 q2089 q2090 q126 q2091
abbrev Ob_odds (Inv : Option TD → CS → Option (Nat → Nat) → MS → Prop) (a0 a1 a2 : Int32) : Prop := ObL Inv (fun post tw S => w1_odds post tw S a0 a1 a2) (fun post tw S => w6_odds post tw S a0 a1 a2)
set_option maxHeartbeats 4000000 in
theorem lc_45 {Inv : Option TD → CS → Option (Nat → Nat) → MS → Prop} {w0 t0 : Option Nat} {tw : Option TD} {S : CS} {rdv : Option Nat} {tw' : Option (Nat → Nat)} {S' : MS} {ov : Nat → Int64} (hC : CX RX0 cL_law 7 (some .boolean) D gCl nwG Z Hb A p s m args meth c) (hX : va_X b L xs s s.heap) (hbl : b < s.heap.size) (hbA : ¬ A b) (h1 : vp_in (x4 + 1) L) (h2 : vp_in (x4 + 2) L) (h3 : vp_in (x4 + 3) L) (h4 : vp_in (x4 + 4) L) (h5 : vp_in (x4 + 5) L) (hcl : cells + 4644 ≤ 1200128) (hsl : slots + 27909 ≤ 5501098)
    (hO : Ob_odds Inv (xs (x4 + 1).toNatClampNeg) (xs (x4 + 2).toNatClampNeg) (bz (xs (x4 + 3).toNatClampNeg))) (hI : Inv tw S tw' S') (hP : va_P D gCl (wL D ad am ao rf w0 t0 tw S rdv tw' S' ov) H) (hD : va_D A (wL D ad am ao rf w0 t0 tw S rdv tw' S' ov)) (hS : va_S A s.heap H locs) (hl : lv_has ls 7 (lL b ad am ao x4))
    (next : ∀ (w0 t0 : Option Nat) (tw : Option TD) (S : CS) (rdv : Option Nat) (tw' : Option (Nat → Nat)) (S' : MS) (ov : Nat → Int64) (H : Heap) (locs : List Loc) (ls : Array Slot), Inv tw S tw' S' → va_P D gCl (wL D ad am ao rf w0 t0 tw S rdv tw' S' ov) H → va_D A (wL D ad am ao rf w0 t0 tw S rdv tw' S' ov) → va_S A s.heap H locs → lv_has ls 7 (lL b ad am ao x4) → W p l e room_1 s m args below meth c H locs (cells + 4644) (slots + 27909) Q (F0 m 2315 ls [])) :
    W p l e room_1 s m args below meth c H locs cells slots Q (F0 m 1737 ls []) := by
  obtain ⟨r, C2, M2, g1, g2, g3⟩ := hO tw S tw' S' hI
  refine lv_aload_n hC.x hC.b dL_law_1737 rfl (lv_at hl 3 rfl) ?_
  refine lv_aload_n hC.x hC.b dL_law_1738 rfl (lv_at hl 4 rfl) ?_
  refine lv_iload hC.x hC.b dL_law_1739 (lv_at hl 0 rfl) ?_
  refine lv_iconst (v := 1) hC.x hC.b dL_law_1741 (by decide) ?_
  refine lv_iadd hC.x hC.b dL_law_1742 ?_
  refine va_sld hC.x hC.b hX hbl hbA hS h1 dL_law_1743 ?_
  refine lv_aload_n hC.x hC.b dL_law_1744 rfl (lv_at hl 4 rfl) ?_
  refine lv_iload hC.x hC.b dL_law_1745 (lv_at hl 0 rfl) ?_
  refine lv_iconst (v := 2) hC.x hC.b dL_law_1747 (by decide) ?_
  refine lv_iadd hC.x hC.b dL_law_1748 ?_
  refine va_sld hC.x hC.b hX hbl hbA hS h2 dL_law_1749 ?_
  refine lv_aload_n hC.x hC.b dL_law_1750 rfl (lv_at hl 4 rfl) ?_
  refine lv_iload hC.x hC.b dL_law_1751 (lv_at hl 0 rfl) ?_
  refine lv_iconst (v := 3) hC.x hC.b dL_law_1753 (by decide) ?_
  refine lv_iadd hC.x hC.b dL_law_1754 ?_
  refine va_sld hC.x hC.b hX hbl hbA hS h3 dL_law_1755 ?_
  refine lv_bz (p1 := 1763) (p2 := 1764) hC.x hC.b dL_law_1756 (by decide) dL_law_1759 dL_law_1760 (by decide) dL_law_1763 rfl ?_
  refine fg_l hC (fr_V (rest := []) (As := [.int (xs (x4 + 1).toNatClampNeg), .int (xs (x4 + 2).toNatClampNeg), .int (bz (xs (x4 + 3).toNatClampNeg))]) hC (m1_odds l g1) vL_1_odds h1_odds 0 0 gCl_X1 rfl rfl ⟨rfl, rfl, Nat.le_of_ble_eq_true rfl, Nat.le_of_ble_eq_true rfl⟩ ⟨by show _ ≤ 1200128; omega, by show _ ≤ 5501098; omega⟩ hP hD hl.1 (Nat.le_of_ble_eq_true rfl) dL_law_1764 rfl) hP hD hS (fun r1 u1 H locs f1 hP hD hS => ?_)
  have hP := w3_P hP
  have hD := w3_D hD
  refine lv_aload_n hC.x hC.b dL_law_1767 rfl (lv_at hl 2 rfl) ?_
  refine lv_aload_n hC.x hC.b dL_law_1768 rfl (lv_at hl 4 rfl) ?_
  refine lv_iload hC.x hC.b dL_law_1769 (lv_at hl 0 rfl) ?_
  refine lv_iconst (v := 1) hC.x hC.b dL_law_1771 (by decide) ?_
  refine lv_iadd hC.x hC.b dL_law_1772 ?_
  refine va_sld hC.x hC.b hX hbl hbA hS h1 dL_law_1773 ?_
  refine lv_aload_n hC.x hC.b dL_law_1774 rfl (lv_at hl 4 rfl) ?_
  refine lv_iload hC.x hC.b dL_law_1775 (lv_at hl 0 rfl) ?_
  refine lv_iconst (v := 2) hC.x hC.b dL_law_1777 (by decide) ?_
  refine lv_iadd hC.x hC.b dL_law_1778 ?_
  refine va_sld hC.x hC.b hX hbl hbA hS h2 dL_law_1779 ?_
  refine lv_aload_n hC.x hC.b dL_law_1780 rfl (lv_at hl 4 rfl) ?_
  refine lv_iload hC.x hC.b dL_law_1781 (lv_at hl 0 rfl) ?_
  refine lv_iconst (v := 3) hC.x hC.b dL_law_1783 (by decide) ?_
  refine lv_iadd hC.x hC.b dL_law_1784 ?_
  refine va_sld hC.x hC.b hX hbl hbA hS h3 dL_law_1785 ?_
  refine lv_bz (p1 := 1793) (p2 := 1794) hC.x hC.b dL_law_1786 (by decide) dL_law_1789 dL_law_1790 (by decide) dL_law_1793 rfl ?_
  refine fg_l hC (fr_V (rest := [.long r1]) (As := [.int (xs (x4 + 1).toNatClampNeg), .int (xs (x4 + 2).toNatClampNeg), .int (bz (xs (x4 + 3).toNatClampNeg))]) hC (m6_odds l g2) vL_6_odds h6_odds 0 5 gCl_X6 rfl rfl ⟨rfl, rfl, Nat.le_of_ble_eq_true rfl, Nat.le_of_ble_eq_true rfl⟩ ⟨by show _ ≤ 1200128; omega, by show _ ≤ 5501098; omega⟩ hP hD hl.1 (Nat.le_of_ble_eq_true rfl) dL_law_1794 rfl) hP hD hS (fun r2 u2 H locs f2 hP hD hS => ?_)
  have hP := w3_P (w3_P hP)
  have hD := w3_D (w3_D hD)
  refine W.lcmp hC.x hC.b dL_law_1797 ?_
  obtain ⟨rfl, f1⟩ := f1
  obtain ⟨rfl, f2⟩ := f2
  rw [lg_cmp_self]
  refine lv_if_eq (tgt := 2315) hC.x hC.b dL_law_1798 (by decide) (fun _ => ?_) (fun c => absurd rfl c)
  refine W.widen (k := cells + 4644) (n := slots + 27909) (by omega) (by omega) ?_
  exact next _ _ _ _ _ _ _ _ _ _ ls (g3 _ _ f1 f2) hP hD hS hl
theorem vL_1_most : GoodIn lw_all (wsV RX0 209 RX1 yX1_most (ws_ yX1_most cX1_most 5 (some .long))) := lw_V q1275 q1276 q1277 q118 q1278
theorem vL_6_most : GoodIn lw_all (wsV RX0 212 RX6 yX6_most (ws_ yX6_most cX6_most 9 (some .long))) := lw_V q2108 q2109 q2110 q126 q2111
abbrev Ob_most (Inv : Option TD → CS → Option (Nat → Nat) → MS → Prop) (a0 a1 a2 : Int32) : Prop := ObL Inv (fun post tw S => w1_most post tw S a0 a1 a2) (fun post tw S => w6_most post tw S a0 a1 a2)
set_option maxHeartbeats 4000000 in
theorem lc_46 {Inv : Option TD → CS → Option (Nat → Nat) → MS → Prop} {w0 t0 : Option Nat} {tw : Option TD} {S : CS} {rdv : Option Nat} {tw' : Option (Nat → Nat)} {S' : MS} {ov : Nat → Int64} (hC : CX RX0 cL_law 7 (some .boolean) D gCl nwG Z Hb A p s m args meth c) (hX : va_X b L xs s s.heap) (hbl : b < s.heap.size) (hbA : ¬ A b) (h1 : vp_in (x4 + 1) L) (h2 : vp_in (x4 + 2) L) (h3 : vp_in (x4 + 3) L) (h4 : vp_in (x4 + 4) L) (h5 : vp_in (x4 + 5) L) (hcl : cells + 4644 ≤ 1200128) (hsl : slots + 27909 ≤ 5501098)
    (hO : Ob_most Inv (xs (x4 + 1).toNatClampNeg) (xs (x4 + 2).toNatClampNeg) (bz (xs (x4 + 3).toNatClampNeg))) (hI : Inv tw S tw' S') (hP : va_P D gCl (wL D ad am ao rf w0 t0 tw S rdv tw' S' ov) H) (hD : va_D A (wL D ad am ao rf w0 t0 tw S rdv tw' S' ov)) (hS : va_S A s.heap H locs) (hl : lv_has ls 7 (lL b ad am ao x4))
    (next : ∀ (w0 t0 : Option Nat) (tw : Option TD) (S : CS) (rdv : Option Nat) (tw' : Option (Nat → Nat)) (S' : MS) (ov : Nat → Int64) (H : Heap) (locs : List Loc) (ls : Array Slot), Inv tw S tw' S' → va_P D gCl (wL D ad am ao rf w0 t0 tw S rdv tw' S' ov) H → va_D A (wL D ad am ao rf w0 t0 tw S rdv tw' S' ov) → va_S A s.heap H locs → lv_has ls 7 (lL b ad am ao x4) → W p l e room_1 s m args below meth c H locs (cells + 4644) (slots + 27909) Q (F0 m 2315 ls [])) :
    W p l e room_1 s m args below meth c H locs cells slots Q (F0 m 1803 ls []) := by
  obtain ⟨r, C2, M2, g1, g2, g3⟩ := hO tw S tw' S' hI
  refine lv_aload_n hC.x hC.b dL_law_1803 rfl (lv_at hl 3 rfl) ?_
  refine lv_aload_n hC.x hC.b dL_law_1804 rfl (lv_at hl 4 rfl) ?_
  refine lv_iload hC.x hC.b dL_law_1805 (lv_at hl 0 rfl) ?_
  refine lv_iconst (v := 1) hC.x hC.b dL_law_1807 (by decide) ?_
  refine lv_iadd hC.x hC.b dL_law_1808 ?_
  refine va_sld hC.x hC.b hX hbl hbA hS h1 dL_law_1809 ?_
  refine lv_aload_n hC.x hC.b dL_law_1810 rfl (lv_at hl 4 rfl) ?_
  refine lv_iload hC.x hC.b dL_law_1811 (lv_at hl 0 rfl) ?_
  refine lv_iconst (v := 2) hC.x hC.b dL_law_1813 (by decide) ?_
  refine lv_iadd hC.x hC.b dL_law_1814 ?_
  refine va_sld hC.x hC.b hX hbl hbA hS h2 dL_law_1815 ?_
  refine lv_aload_n hC.x hC.b dL_law_1816 rfl (lv_at hl 4 rfl) ?_
  refine lv_iload hC.x hC.b dL_law_1817 (lv_at hl 0 rfl) ?_
  refine lv_iconst (v := 3) hC.x hC.b dL_law_1819 (by decide) ?_
  refine lv_iadd hC.x hC.b dL_law_1820 ?_
  refine va_sld hC.x hC.b hX hbl hbA hS h3 dL_law_1821 ?_
  refine lv_bz (p1 := 1829) (p2 := 1830) hC.x hC.b dL_law_1822 (by decide) dL_law_1825 dL_law_1826 (by decide) dL_law_1829 rfl ?_
  refine fg_l hC (fr_V (rest := []) (As := [.int (xs (x4 + 1).toNatClampNeg), .int (xs (x4 + 2).toNatClampNeg), .int (bz (xs (x4 + 3).toNatClampNeg))]) hC (m1_most l g1) vL_1_most h1_most 0 0 gCl_X1 rfl rfl ⟨rfl, rfl, Nat.le_of_ble_eq_true rfl, Nat.le_of_ble_eq_true rfl⟩ ⟨by show _ ≤ 1200128; omega, by show _ ≤ 5501098; omega⟩ hP hD hl.1 (Nat.le_of_ble_eq_true rfl) dL_law_1830 rfl) hP hD hS (fun r1 u1 H locs f1 hP hD hS => ?_)
  have hP := w3_P hP
  have hD := w3_D hD
  refine lv_aload_n hC.x hC.b dL_law_1833 rfl (lv_at hl 2 rfl) ?_
  refine lv_aload_n hC.x hC.b dL_law_1834 rfl (lv_at hl 4 rfl) ?_
  refine lv_iload hC.x hC.b dL_law_1835 (lv_at hl 0 rfl) ?_
  refine lv_iconst (v := 1) hC.x hC.b dL_law_1837 (by decide) ?_
  refine lv_iadd hC.x hC.b dL_law_1838 ?_
  refine va_sld hC.x hC.b hX hbl hbA hS h1 dL_law_1839 ?_
  refine lv_aload_n hC.x hC.b dL_law_1840 rfl (lv_at hl 4 rfl) ?_
  refine lv_iload hC.x hC.b dL_law_1841 (lv_at hl 0 rfl) ?_
  refine lv_iconst (v := 2) hC.x hC.b dL_law_1843 (by decide) ?_
  refine lv_iadd hC.x hC.b dL_law_1844 ?_
  refine va_sld hC.x hC.b hX hbl hbA hS h2 dL_law_1845 ?_
  refine lv_aload_n hC.x hC.b dL_law_1846 rfl (lv_at hl 4 rfl) ?_
  refine lv_iload hC.x hC.b dL_law_1847 (lv_at hl 0 rfl) ?_
  refine lv_iconst (v := 3) hC.x hC.b dL_law_1849 (by decide) ?_
  refine lv_iadd hC.x hC.b dL_law_1850 ?_
  refine va_sld hC.x hC.b hX hbl hbA hS h3 dL_law_1851 ?_
  refine lv_bz (p1 := 1859) (p2 := 1860) hC.x hC.b dL_law_1852 (by decide) dL_law_1855 dL_law_1856 (by decide) dL_law_1859 rfl ?_
  refine fg_l hC (fr_V (rest := [.long r1]) (As := [.int (xs (x4 + 1).toNatClampNeg), .int (xs (x4 + 2).toNatClampNeg), .int (bz (xs (x4 + 3).toNatClampNeg))]) hC (m6_most l g2) vL_6_most h6_most 0 5 gCl_X6 rfl rfl ⟨rfl, rfl, Nat.le_of_ble_eq_true rfl, Nat.le_of_ble_eq_true rfl⟩ ⟨by show _ ≤ 1200128; omega, by show _ ≤ 5501098; omega⟩ hP hD hl.1 (Nat.le_of_ble_eq_true rfl) dL_law_1860 rfl) hP hD hS (fun r2 u2 H locs f2 hP hD hS => ?_)
  have hP := w3_P (w3_P hP)
  have hD := w3_D (w3_D hD)
  refine W.lcmp hC.x hC.b dL_law_1863 ?_
  obtain ⟨rfl, f1⟩ := f1
  obtain ⟨rfl, f2⟩ := f2
  rw [lg_cmp_self]
  refine lv_if_eq (tgt := 2315) hC.x hC.b dL_law_1864 (by decide) (fun _ => ?_) (fun c => absurd rfl c)
  refine W.widen (k := cells + 4644) (n := slots + 27909) (by omega) (by omega) ?_
  exact next _ _ _ _ _ _ _ _ _ _ ls (g3 _ _ f1 f2) hP hD hS hl
theorem vL_1_mean : GoodIn lw_all (wsV RX0 213 RX1 yX1_mean (ws_ yX1_mean cX1_mean 5 (some .long))) := lw_V q1283 q1284 q1285 q118 q1286
theorem vL_6_mean : GoodIn lw_all (wsV RX0 216 RX6 yX6_mean (ws_ yX6_mean cX6_mean 8 (some .long))) := lw_V q2112 q2113 q2114 q126 q2115
abbrev Ob_mean (Inv : Option TD → CS → Option (Nat → Nat) → MS → Prop) (a0 a1 a2 : Int32) : Prop := ObL Inv (fun post tw S => w1_mean post tw S a0 a1 a2) (fun post tw S => w6_mean post tw S a0 a1 a2)
set_option maxHeartbeats 4000000 in
theorem lc_47 {Inv : Option TD → CS → Option (Nat → Nat) → MS → Prop} {w0 t0 : Option Nat} {tw : Option TD} {S : CS} {rdv : Option Nat} {tw' : Option (Nat → Nat)} {S' : MS} {ov : Nat → Int64} (hC : CX RX0 cL_law 7 (some .boolean) D gCl nwG Z Hb A p s m args meth c) (hX : va_X b L xs s s.heap) (hbl : b < s.heap.size) (hbA : ¬ A b) (h1 : vp_in (x4 + 1) L) (h2 : vp_in (x4 + 2) L) (h3 : vp_in (x4 + 3) L) (h4 : vp_in (x4 + 4) L) (h5 : vp_in (x4 + 5) L) (hcl : cells + 4644 ≤ 1200128) (hsl : slots + 27909 ≤ 5501098)
    (hO : Ob_mean Inv (xs (x4 + 1).toNatClampNeg) (xs (x4 + 2).toNatClampNeg) (bz (xs (x4 + 3).toNatClampNeg))) (hI : Inv tw S tw' S') (hP : va_P D gCl (wL D ad am ao rf w0 t0 tw S rdv tw' S' ov) H) (hD : va_D A (wL D ad am ao rf w0 t0 tw S rdv tw' S' ov)) (hS : va_S A s.heap H locs) (hl : lv_has ls 7 (lL b ad am ao x4))
    (next : ∀ (w0 t0 : Option Nat) (tw : Option TD) (S : CS) (rdv : Option Nat) (tw' : Option (Nat → Nat)) (S' : MS) (ov : Nat → Int64) (H : Heap) (locs : List Loc) (ls : Array Slot), Inv tw S tw' S' → va_P D gCl (wL D ad am ao rf w0 t0 tw S rdv tw' S' ov) H → va_D A (wL D ad am ao rf w0 t0 tw S rdv tw' S' ov) → va_S A s.heap H locs → lv_has ls 7 (lL b ad am ao x4) → W p l e room_1 s m args below meth c H locs (cells + 4644) (slots + 27909) Q (F0 m 2315 ls [])) :
    W p l e room_1 s m args below meth c H locs cells slots Q (F0 m 1869 ls []) := by
  obtain ⟨r, C2, M2, g1, g2, g3⟩ := hO tw S tw' S' hI
  refine lv_aload_n hC.x hC.b dL_law_1869 rfl (lv_at hl 3 rfl) ?_
  refine lv_aload_n hC.x hC.b dL_law_1870 rfl (lv_at hl 4 rfl) ?_
  refine lv_iload hC.x hC.b dL_law_1871 (lv_at hl 0 rfl) ?_
  refine lv_iconst (v := 1) hC.x hC.b dL_law_1873 (by decide) ?_
  refine lv_iadd hC.x hC.b dL_law_1874 ?_
  refine va_sld hC.x hC.b hX hbl hbA hS h1 dL_law_1875 ?_
  refine lv_aload_n hC.x hC.b dL_law_1876 rfl (lv_at hl 4 rfl) ?_
  refine lv_iload hC.x hC.b dL_law_1877 (lv_at hl 0 rfl) ?_
  refine lv_iconst (v := 2) hC.x hC.b dL_law_1879 (by decide) ?_
  refine lv_iadd hC.x hC.b dL_law_1880 ?_
  refine va_sld hC.x hC.b hX hbl hbA hS h2 dL_law_1881 ?_
  refine lv_aload_n hC.x hC.b dL_law_1882 rfl (lv_at hl 4 rfl) ?_
  refine lv_iload hC.x hC.b dL_law_1883 (lv_at hl 0 rfl) ?_
  refine lv_iconst (v := 3) hC.x hC.b dL_law_1885 (by decide) ?_
  refine lv_iadd hC.x hC.b dL_law_1886 ?_
  refine va_sld hC.x hC.b hX hbl hbA hS h3 dL_law_1887 ?_
  refine lv_bz (p1 := 1895) (p2 := 1896) hC.x hC.b dL_law_1888 (by decide) dL_law_1891 dL_law_1892 (by decide) dL_law_1895 rfl ?_
  refine fg_l hC (fr_V (rest := []) (As := [.int (xs (x4 + 1).toNatClampNeg), .int (xs (x4 + 2).toNatClampNeg), .int (bz (xs (x4 + 3).toNatClampNeg))]) hC (m1_mean l g1) vL_1_mean h1_mean 0 0 gCl_X1 rfl rfl ⟨rfl, rfl, Nat.le_of_ble_eq_true rfl, Nat.le_of_ble_eq_true rfl⟩ ⟨by show _ ≤ 1200128; omega, by show _ ≤ 5501098; omega⟩ hP hD hl.1 (Nat.le_of_ble_eq_true rfl) dL_law_1896 rfl) hP hD hS (fun r1 u1 H locs f1 hP hD hS => ?_)
  have hP := w3_P hP
  have hD := w3_D hD
  refine lv_aload_n hC.x hC.b dL_law_1899 rfl (lv_at hl 2 rfl) ?_
  refine lv_aload_n hC.x hC.b dL_law_1900 rfl (lv_at hl 4 rfl) ?_
  refine lv_iload hC.x hC.b dL_law_1901 (lv_at hl 0 rfl) ?_
  refine lv_iconst (v := 1) hC.x hC.b dL_law_1903 (by decide) ?_
  refine lv_iadd hC.x hC.b dL_law_1904 ?_
  refine va_sld hC.x hC.b hX hbl hbA hS h1 dL_law_1905 ?_
  refine lv_aload_n hC.x hC.b dL_law_1906 rfl (lv_at hl 4 rfl) ?_
  refine lv_iload hC.x hC.b dL_law_1907 (lv_at hl 0 rfl) ?_
  refine lv_iconst (v := 2) hC.x hC.b dL_law_1909 (by decide) ?_
  refine lv_iadd hC.x hC.b dL_law_1910 ?_
  refine va_sld hC.x hC.b hX hbl hbA hS h2 dL_law_1911 ?_
  refine lv_aload_n hC.x hC.b dL_law_1912 rfl (lv_at hl 4 rfl) ?_
  refine lv_iload hC.x hC.b dL_law_1913 (lv_at hl 0 rfl) ?_
  refine lv_iconst (v := 3) hC.x hC.b dL_law_1915 (by decide) ?_
  refine lv_iadd hC.x hC.b dL_law_1916 ?_
  refine va_sld hC.x hC.b hX hbl hbA hS h3 dL_law_1917 ?_
  refine lv_bz (p1 := 1925) (p2 := 1926) hC.x hC.b dL_law_1918 (by decide) dL_law_1921 dL_law_1922 (by decide) dL_law_1925 rfl ?_
  refine fg_l hC (fr_V (rest := [.long r1]) (As := [.int (xs (x4 + 1).toNatClampNeg), .int (xs (x4 + 2).toNatClampNeg), .int (bz (xs (x4 + 3).toNatClampNeg))]) hC (m6_mean l g2) vL_6_mean h6_mean 0 5 gCl_X6 rfl rfl ⟨rfl, rfl, Nat.le_of_ble_eq_true rfl, Nat.le_of_ble_eq_true rfl⟩ ⟨by show _ ≤ 1200128; omega, by show _ ≤ 5501098; omega⟩ hP hD hl.1 (Nat.le_of_ble_eq_true rfl) dL_law_1926 rfl) hP hD hS (fun r2 u2 H locs f2 hP hD hS => ?_)
  have hP := w3_P (w3_P hP)
  have hD := w3_D (w3_D hD)
  refine W.lcmp hC.x hC.b dL_law_1929 ?_
  obtain ⟨rfl, f1⟩ := f1
  obtain ⟨rfl, f2⟩ := f2
  rw [lg_cmp_self]
  refine lv_if_eq (tgt := 2315) hC.x hC.b dL_law_1930 (by decide) (fun _ => ?_) (fun c => absurd rfl c)
  refine W.widen (k := cells + 4644) (n := slots + 27909) (by omega) (by omega) ?_
  exact next _ _ _ _ _ _ _ _ _ _ ls (g3 _ _ f1 f2) hP hD hS hl
theorem vL_1_heardBy : GoodIn lw_all (wsV RX0 217 RX1 yX1_heardBy (ws_ yX1_heardBy cX1_heardBy 5 (some .int))) := lw_V q1287 q1288 q1289 q118 q1290
theorem vL_6_heardBy : GoodIn lw_all (wsV RX0 220 RX6 yX6_heardBy (ws_ yX6_heardBy cX6_heardBy 6 (some .int))) := lw_V q2116 q2117 q2118 q126 q2119
abbrev Ob_heardBy (Inv : Option TD → CS → Option (Nat → Nat) → MS → Prop) (a0 a1 a2 : Int32) : Prop := ObI Inv (fun post tw S => w1_heardBy post tw S a0 a1 a2) (fun post tw S => w6_heardBy post tw S a0 a1 a2)
set_option maxHeartbeats 4000000 in
theorem lc_48 {Inv : Option TD → CS → Option (Nat → Nat) → MS → Prop} {w0 t0 : Option Nat} {tw : Option TD} {S : CS} {rdv : Option Nat} {tw' : Option (Nat → Nat)} {S' : MS} {ov : Nat → Int64} (hC : CX RX0 cL_law 7 (some .boolean) D gCl nwG Z Hb A p s m args meth c) (hX : va_X b L xs s s.heap) (hbl : b < s.heap.size) (hbA : ¬ A b) (h1 : vp_in (x4 + 1) L) (h2 : vp_in (x4 + 2) L) (h3 : vp_in (x4 + 3) L) (h4 : vp_in (x4 + 4) L) (h5 : vp_in (x4 + 5) L) (hcl : cells + 4644 ≤ 1200128) (hsl : slots + 27909 ≤ 5501098)
    (hO : Ob_heardBy Inv (xs (x4 + 1).toNatClampNeg) (xs (x4 + 2).toNatClampNeg) (xs (x4 + 3).toNatClampNeg)) (hI : Inv tw S tw' S') (hP : va_P D gCl (wL D ad am ao rf w0 t0 tw S rdv tw' S' ov) H) (hD : va_D A (wL D ad am ao rf w0 t0 tw S rdv tw' S' ov)) (hS : va_S A s.heap H locs) (hl : lv_has ls 7 (lL b ad am ao x4))
    (next : ∀ (w0 t0 : Option Nat) (tw : Option TD) (S : CS) (rdv : Option Nat) (tw' : Option (Nat → Nat)) (S' : MS) (ov : Nat → Int64) (H : Heap) (locs : List Loc) (ls : Array Slot), Inv tw S tw' S' → va_P D gCl (wL D ad am ao rf w0 t0 tw S rdv tw' S' ov) H → va_D A (wL D ad am ao rf w0 t0 tw S rdv tw' S' ov) → va_S A s.heap H locs → lv_has ls 7 (lL b ad am ao x4) → W p l e room_1 s m args below meth c H locs (cells + 4644) (slots + 27909) Q (F0 m 2315 ls [])) :
    W p l e room_1 s m args below meth c H locs cells slots Q (F0 m 1935 ls []) := by
  obtain ⟨r, C2, M2, g1, g2, g3⟩ := hO tw S tw' S' hI
  refine lv_aload_n hC.x hC.b dL_law_1935 rfl (lv_at hl 3 rfl) ?_
  refine lv_aload_n hC.x hC.b dL_law_1936 rfl (lv_at hl 4 rfl) ?_
  refine lv_iload hC.x hC.b dL_law_1937 (lv_at hl 0 rfl) ?_
  refine lv_iconst (v := 1) hC.x hC.b dL_law_1939 (by decide) ?_
  refine lv_iadd hC.x hC.b dL_law_1940 ?_
  refine va_sld hC.x hC.b hX hbl hbA hS h1 dL_law_1941 ?_
  refine lv_aload_n hC.x hC.b dL_law_1942 rfl (lv_at hl 4 rfl) ?_
  refine lv_iload hC.x hC.b dL_law_1943 (lv_at hl 0 rfl) ?_
  refine lv_iconst (v := 2) hC.x hC.b dL_law_1945 (by decide) ?_
  refine lv_iadd hC.x hC.b dL_law_1946 ?_
  refine va_sld hC.x hC.b hX hbl hbA hS h2 dL_law_1947 ?_
  refine lv_aload_n hC.x hC.b dL_law_1948 rfl (lv_at hl 4 rfl) ?_
  refine lv_iload hC.x hC.b dL_law_1949 (lv_at hl 0 rfl) ?_
  refine lv_iconst (v := 3) hC.x hC.b dL_law_1951 (by decide) ?_
  refine lv_iadd hC.x hC.b dL_law_1952 ?_
  refine va_sld hC.x hC.b hX hbl hbA hS h3 dL_law_1953 ?_
  refine fg_i hC (fr_V (rest := []) (As := [.int (xs (x4 + 1).toNatClampNeg), .int (xs (x4 + 2).toNatClampNeg), .int (xs (x4 + 3).toNatClampNeg)]) hC (m1_heardBy l g1) vL_1_heardBy h1_heardBy 0 0 gCl_X1 rfl rfl ⟨rfl, rfl, Nat.le_of_ble_eq_true rfl, Nat.le_of_ble_eq_true rfl⟩ ⟨by show _ ≤ 1200128; omega, by show _ ≤ 5501098; omega⟩ hP hD hl.1 (Nat.le_of_ble_eq_true rfl) dL_law_1954 rfl) hP hD hS (fun r1 u1 H locs f1 hP hD hS => ?_)
  have hP := w3_P hP
  have hD := w3_D hD
  refine lv_aload_n hC.x hC.b dL_law_1957 rfl (lv_at hl 2 rfl) ?_
  refine lv_aload_n hC.x hC.b dL_law_1958 rfl (lv_at hl 4 rfl) ?_
  refine lv_iload hC.x hC.b dL_law_1959 (lv_at hl 0 rfl) ?_
  refine lv_iconst (v := 1) hC.x hC.b dL_law_1961 (by decide) ?_
  refine lv_iadd hC.x hC.b dL_law_1962 ?_
  refine va_sld hC.x hC.b hX hbl hbA hS h1 dL_law_1963 ?_
  refine lv_aload_n hC.x hC.b dL_law_1964 rfl (lv_at hl 4 rfl) ?_
  refine lv_iload hC.x hC.b dL_law_1965 (lv_at hl 0 rfl) ?_
  refine lv_iconst (v := 2) hC.x hC.b dL_law_1967 (by decide) ?_
  refine lv_iadd hC.x hC.b dL_law_1968 ?_
  refine va_sld hC.x hC.b hX hbl hbA hS h2 dL_law_1969 ?_
  refine lv_aload_n hC.x hC.b dL_law_1970 rfl (lv_at hl 4 rfl) ?_
  refine lv_iload hC.x hC.b dL_law_1971 (lv_at hl 0 rfl) ?_
  refine lv_iconst (v := 3) hC.x hC.b dL_law_1973 (by decide) ?_
  refine lv_iadd hC.x hC.b dL_law_1974 ?_
  refine va_sld hC.x hC.b hX hbl hbA hS h3 dL_law_1975 ?_
  refine fg_i hC (fr_V (rest := [.int r1]) (As := [.int (xs (x4 + 1).toNatClampNeg), .int (xs (x4 + 2).toNatClampNeg), .int (xs (x4 + 3).toNatClampNeg)]) hC (m6_heardBy l g2) vL_6_heardBy h6_heardBy 0 5 gCl_X6 rfl rfl ⟨rfl, rfl, Nat.le_of_ble_eq_true rfl, Nat.le_of_ble_eq_true rfl⟩ ⟨by show _ ≤ 1200128; omega, by show _ ≤ 5501098; omega⟩ hP hD hl.1 (Nat.le_of_ble_eq_true rfl) dL_law_1976 rfl) hP hD hS (fun r2 u2 H locs f2 hP hD hS => ?_)
  have hP := w3_P (w3_P hP)
  have hD := w3_D (w3_D hD)
  obtain ⟨rfl, f1⟩ := f1
  obtain ⟨rfl, f2⟩ := f2
  refine lv_icmp_eq (tgt := 2315) hC.x hC.b dL_law_1979 (by decide) (fun _ => ?_) (fun c => absurd rfl c)
  refine W.widen (k := cells + 4644) (n := slots + 27909) (by omega) (by omega) ?_
  exact next _ _ _ _ _ _ _ _ _ _ ls (g3 _ _ f1 f2) hP hD hS hl
theorem vL_1_rights : GoodIn lw_all (wsV RX0 221 RX1 yX1_rights (ws_ yX1_rights cX1_rights 4 (some .int))) := lw_V q1297 q1298 q1299 q118 q1300
theorem vL_6_rights : GoodIn lw_all (wsV RX0 224 RX6 yX6_rights (ws_ yX6_rights cX6_rights 6 (some .int))) := lw_V q2128 q2129 q2130 q126 q2131
abbrev Ob_rights (Inv : Option TD → CS → Option (Nat → Nat) → MS → Prop) (a0 a1 : Int32) : Prop := ObI Inv (fun post tw S => w1_rights post tw S a0 a1) (fun post tw S => w6_rights post tw S a0 a1)
set_option maxHeartbeats 4000000 in
theorem lc_49 {Inv : Option TD → CS → Option (Nat → Nat) → MS → Prop} {w0 t0 : Option Nat} {tw : Option TD} {S : CS} {rdv : Option Nat} {tw' : Option (Nat → Nat)} {S' : MS} {ov : Nat → Int64} (hC : CX RX0 cL_law 7 (some .boolean) D gCl nwG Z Hb A p s m args meth c) (hX : va_X b L xs s s.heap) (hbl : b < s.heap.size) (hbA : ¬ A b) (h1 : vp_in (x4 + 1) L) (h2 : vp_in (x4 + 2) L) (h3 : vp_in (x4 + 3) L) (h4 : vp_in (x4 + 4) L) (h5 : vp_in (x4 + 5) L) (hcl : cells + 4644 ≤ 1200128) (hsl : slots + 27909 ≤ 5501098)
    (hO : Ob_rights Inv (xs (x4 + 1).toNatClampNeg) (xs (x4 + 2).toNatClampNeg)) (hI : Inv tw S tw' S') (hP : va_P D gCl (wL D ad am ao rf w0 t0 tw S rdv tw' S' ov) H) (hD : va_D A (wL D ad am ao rf w0 t0 tw S rdv tw' S' ov)) (hS : va_S A s.heap H locs) (hl : lv_has ls 7 (lL b ad am ao x4))
    (next : ∀ (w0 t0 : Option Nat) (tw : Option TD) (S : CS) (rdv : Option Nat) (tw' : Option (Nat → Nat)) (S' : MS) (ov : Nat → Int64) (H : Heap) (locs : List Loc) (ls : Array Slot), Inv tw S tw' S' → va_P D gCl (wL D ad am ao rf w0 t0 tw S rdv tw' S' ov) H → va_D A (wL D ad am ao rf w0 t0 tw S rdv tw' S' ov) → va_S A s.heap H locs → lv_has ls 7 (lL b ad am ao x4) → W p l e room_1 s m args below meth c H locs (cells + 4644) (slots + 27909) Q (F0 m 2315 ls [])) :
    W p l e room_1 s m args below meth c H locs cells slots Q (F0 m 1984 ls []) := by
  obtain ⟨r, C2, M2, g1, g2, g3⟩ := hO tw S tw' S' hI
  refine lv_aload_n hC.x hC.b dL_law_1984 rfl (lv_at hl 3 rfl) ?_
  refine lv_aload_n hC.x hC.b dL_law_1985 rfl (lv_at hl 4 rfl) ?_
  refine lv_iload hC.x hC.b dL_law_1986 (lv_at hl 0 rfl) ?_
  refine lv_iconst (v := 1) hC.x hC.b dL_law_1988 (by decide) ?_
  refine lv_iadd hC.x hC.b dL_law_1989 ?_
  refine va_sld hC.x hC.b hX hbl hbA hS h1 dL_law_1990 ?_
  refine lv_aload_n hC.x hC.b dL_law_1991 rfl (lv_at hl 4 rfl) ?_
  refine lv_iload hC.x hC.b dL_law_1992 (lv_at hl 0 rfl) ?_
  refine lv_iconst (v := 2) hC.x hC.b dL_law_1994 (by decide) ?_
  refine lv_iadd hC.x hC.b dL_law_1995 ?_
  refine va_sld hC.x hC.b hX hbl hbA hS h2 dL_law_1996 ?_
  refine fg_i hC (fr_V (rest := []) (As := [.int (xs (x4 + 1).toNatClampNeg), .int (xs (x4 + 2).toNatClampNeg)]) hC (m1_rights l g1) vL_1_rights h1_rights 0 0 gCl_X1 rfl rfl ⟨rfl, rfl, Nat.le_of_ble_eq_true rfl, Nat.le_of_ble_eq_true rfl⟩ ⟨by show _ ≤ 1200128; omega, by show _ ≤ 5501098; omega⟩ hP hD hl.1 (Nat.le_of_ble_eq_true rfl) dL_law_1997 rfl) hP hD hS (fun r1 u1 H locs f1 hP hD hS => ?_)
  have hP := w3_P hP
  have hD := w3_D hD
  refine lv_aload_n hC.x hC.b dL_law_2000 rfl (lv_at hl 2 rfl) ?_
  refine lv_aload_n hC.x hC.b dL_law_2001 rfl (lv_at hl 4 rfl) ?_
  refine lv_iload hC.x hC.b dL_law_2002 (lv_at hl 0 rfl) ?_
  refine lv_iconst (v := 1) hC.x hC.b dL_law_2004 (by decide) ?_
  refine lv_iadd hC.x hC.b dL_law_2005 ?_
  refine va_sld hC.x hC.b hX hbl hbA hS h1 dL_law_2006 ?_
  refine lv_aload_n hC.x hC.b dL_law_2007 rfl (lv_at hl 4 rfl) ?_
  refine lv_iload hC.x hC.b dL_law_2008 (lv_at hl 0 rfl) ?_
  refine lv_iconst (v := 2) hC.x hC.b dL_law_2010 (by decide) ?_
  refine lv_iadd hC.x hC.b dL_law_2011 ?_
  refine va_sld hC.x hC.b hX hbl hbA hS h2 dL_law_2012 ?_
  refine fg_i hC (fr_V (rest := [.int r1]) (As := [.int (xs (x4 + 1).toNatClampNeg), .int (xs (x4 + 2).toNatClampNeg)]) hC (m6_rights l g2) vL_6_rights h6_rights 0 5 gCl_X6 rfl rfl ⟨rfl, rfl, Nat.le_of_ble_eq_true rfl, Nat.le_of_ble_eq_true rfl⟩ ⟨by show _ ≤ 1200128; omega, by show _ ≤ 5501098; omega⟩ hP hD hl.1 (Nat.le_of_ble_eq_true rfl) dL_law_2013 rfl) hP hD hS (fun r2 u2 H locs f2 hP hD hS => ?_)
  have hP := w3_P (w3_P hP)
  have hD := w3_D (w3_D hD)
  obtain ⟨rfl, f1⟩ := f1
  obtain ⟨rfl, f2⟩ := f2
  refine lv_icmp_eq (tgt := 2315) hC.x hC.b dL_law_2016 (by decide) (fun _ => ?_) (fun c => absurd rfl c)
  refine W.widen (k := cells + 4644) (n := slots + 27909) (by omega) (by omega) ?_
  exact next _ _ _ _ _ _ _ _ _ _ ls (g3 _ _ f1 f2) hP hD hS hl
theorem vL_1_night : GoodIn lw_all (wsV RX0 225 RX1 yX1_night (ws_ yX1_night cX1_night 1 (some .int))) := lw_V q1301 q1302 q1303 q118 q1304
theorem vL_6_night : GoodIn lw_all (wsV RX0 228 RX6 yX6_night (ws_ yX6_night cX6_night 1 (some .int))) := lw_V q2132 q2133 q2134 q126 q2135
abbrev Ob_night (Inv : Option TD → CS → Option (Nat → Nat) → MS → Prop) : Prop := ObI Inv (fun post tw S => w1_night post tw S) (fun post tw S => w6_night post tw S)
set_option maxHeartbeats 4000000 in
theorem lc_50 {Inv : Option TD → CS → Option (Nat → Nat) → MS → Prop} {w0 t0 : Option Nat} {tw : Option TD} {S : CS} {rdv : Option Nat} {tw' : Option (Nat → Nat)} {S' : MS} {ov : Nat → Int64} (hC : CX RX0 cL_law 7 (some .boolean) D gCl nwG Z Hb A p s m args meth c) (hX : va_X b L xs s s.heap) (hbl : b < s.heap.size) (hbA : ¬ A b) (h1 : vp_in (x4 + 1) L) (h2 : vp_in (x4 + 2) L) (h3 : vp_in (x4 + 3) L) (h4 : vp_in (x4 + 4) L) (h5 : vp_in (x4 + 5) L) (hcl : cells + 4644 ≤ 1200128) (hsl : slots + 27909 ≤ 5501098)
    (hO : Ob_night Inv) (hI : Inv tw S tw' S') (hP : va_P D gCl (wL D ad am ao rf w0 t0 tw S rdv tw' S' ov) H) (hD : va_D A (wL D ad am ao rf w0 t0 tw S rdv tw' S' ov)) (hS : va_S A s.heap H locs) (hl : lv_has ls 7 (lL b ad am ao x4))
    (next : ∀ (w0 t0 : Option Nat) (tw : Option TD) (S : CS) (rdv : Option Nat) (tw' : Option (Nat → Nat)) (S' : MS) (ov : Nat → Int64) (H : Heap) (locs : List Loc) (ls : Array Slot), Inv tw S tw' S' → va_P D gCl (wL D ad am ao rf w0 t0 tw S rdv tw' S' ov) H → va_D A (wL D ad am ao rf w0 t0 tw S rdv tw' S' ov) → va_S A s.heap H locs → lv_has ls 7 (lL b ad am ao x4) → W p l e room_1 s m args below meth c H locs (cells + 4644) (slots + 27909) Q (F0 m 2315 ls [])) :
    W p l e room_1 s m args below meth c H locs cells slots Q (F0 m 2021 ls []) := by
  obtain ⟨r, C2, M2, g1, g2, g3⟩ := hO tw S tw' S' hI
  refine lv_aload_n hC.x hC.b dL_law_2021 rfl (lv_at hl 3 rfl) ?_
  refine fg_i hC (fr_V (rest := []) (As := []) hC (m1_night l g1) vL_1_night h1_night 0 0 gCl_X1 rfl rfl ⟨rfl, rfl, Nat.le_of_ble_eq_true rfl, Nat.le_of_ble_eq_true rfl⟩ ⟨by show _ ≤ 1200128; omega, by show _ ≤ 5501098; omega⟩ hP hD hl.1 (Nat.le_of_ble_eq_true rfl) dL_law_2022 rfl) hP hD hS (fun r1 u1 H locs f1 hP hD hS => ?_)
  have hP := w3_P hP
  have hD := w3_D hD
  refine lv_aload_n hC.x hC.b dL_law_2025 rfl (lv_at hl 2 rfl) ?_
  refine fg_i hC (fr_V (rest := [.int r1]) (As := []) hC (m6_night l g2) vL_6_night h6_night 0 5 gCl_X6 rfl rfl ⟨rfl, rfl, Nat.le_of_ble_eq_true rfl, Nat.le_of_ble_eq_true rfl⟩ ⟨by show _ ≤ 1200128; omega, by show _ ≤ 5501098; omega⟩ hP hD hl.1 (Nat.le_of_ble_eq_true rfl) dL_law_2026 rfl) hP hD hS (fun r2 u2 H locs f2 hP hD hS => ?_)
  have hP := w3_P (w3_P hP)
  have hD := w3_D (w3_D hD)
  obtain ⟨rfl, f1⟩ := f1
  obtain ⟨rfl, f2⟩ := f2
  refine lv_icmp_eq (tgt := 2315) hC.x hC.b dL_law_2029 (by decide) (fun _ => ?_) (fun c => absurd rfl c)
  refine W.widen (k := cells + 4644) (n := slots + 27909) (by omega) (by omega) ?_
  exact next _ _ _ _ _ _ _ _ _ _ ls (g3 _ _ f1 f2) hP hD hS hl
theorem vL_1_move : GoodIn lw_all (wsV RX0 229 RX1 yX1_move (ws_ yX1_move cX1_move 3 (some .int))) := lw_V q1313 q1314 q1315 q118 q1316
theorem vL_6_move : GoodIn lw_all (wsV RX0 232 RX6 yX6_move (ws_ yX6_move cX6_move 3 (some .int))) := lw_V q2140 q2141 q2142 q126 q2143
abbrev Ob_move (Inv : Option TD → CS → Option (Nat → Nat) → MS → Prop) (a0 a1 : Int32) : Prop := ObI Inv (fun post tw S => w1_move post tw S a0 a1) (fun post tw S => w6_move post tw S a0 a1)
set_option maxHeartbeats 4000000 in
theorem lc_51 {Inv : Option TD → CS → Option (Nat → Nat) → MS → Prop} {w0 t0 : Option Nat} {tw : Option TD} {S : CS} {rdv : Option Nat} {tw' : Option (Nat → Nat)} {S' : MS} {ov : Nat → Int64} (hC : CX RX0 cL_law 7 (some .boolean) D gCl nwG Z Hb A p s m args meth c) (hX : va_X b L xs s s.heap) (hbl : b < s.heap.size) (hbA : ¬ A b) (h1 : vp_in (x4 + 1) L) (h2 : vp_in (x4 + 2) L) (h3 : vp_in (x4 + 3) L) (h4 : vp_in (x4 + 4) L) (h5 : vp_in (x4 + 5) L) (hcl : cells + 4644 ≤ 1200128) (hsl : slots + 27909 ≤ 5501098)
    (hO : Ob_move Inv (xs (x4 + 1).toNatClampNeg) (xs (x4 + 2).toNatClampNeg)) (hI : Inv tw S tw' S') (hP : va_P D gCl (wL D ad am ao rf w0 t0 tw S rdv tw' S' ov) H) (hD : va_D A (wL D ad am ao rf w0 t0 tw S rdv tw' S' ov)) (hS : va_S A s.heap H locs) (hl : lv_has ls 7 (lL b ad am ao x4))
    (next : ∀ (w0 t0 : Option Nat) (tw : Option TD) (S : CS) (rdv : Option Nat) (tw' : Option (Nat → Nat)) (S' : MS) (ov : Nat → Int64) (H : Heap) (locs : List Loc) (ls : Array Slot), Inv tw S tw' S' → va_P D gCl (wL D ad am ao rf w0 t0 tw S rdv tw' S' ov) H → va_D A (wL D ad am ao rf w0 t0 tw S rdv tw' S' ov) → va_S A s.heap H locs → lv_has ls 7 (lL b ad am ao x4) → W p l e room_1 s m args below meth c H locs (cells + 4644) (slots + 27909) Q (F0 m 2315 ls [])) :
    W p l e room_1 s m args below meth c H locs cells slots Q (F0 m 2034 ls []) := by
  obtain ⟨r, C2, M2, g1, g2, g3⟩ := hO tw S tw' S' hI
  refine lv_aload_n hC.x hC.b dL_law_2034 rfl (lv_at hl 3 rfl) ?_
  refine lv_aload_n hC.x hC.b dL_law_2035 rfl (lv_at hl 4 rfl) ?_
  refine lv_iload hC.x hC.b dL_law_2036 (lv_at hl 0 rfl) ?_
  refine lv_iconst (v := 1) hC.x hC.b dL_law_2038 (by decide) ?_
  refine lv_iadd hC.x hC.b dL_law_2039 ?_
  refine va_sld hC.x hC.b hX hbl hbA hS h1 dL_law_2040 ?_
  refine lv_aload_n hC.x hC.b dL_law_2041 rfl (lv_at hl 4 rfl) ?_
  refine lv_iload hC.x hC.b dL_law_2042 (lv_at hl 0 rfl) ?_
  refine lv_iconst (v := 2) hC.x hC.b dL_law_2044 (by decide) ?_
  refine lv_iadd hC.x hC.b dL_law_2045 ?_
  refine va_sld hC.x hC.b hX hbl hbA hS h2 dL_law_2046 ?_
  refine fg_i hC (fr_V (rest := []) (As := [.int (xs (x4 + 1).toNatClampNeg), .int (xs (x4 + 2).toNatClampNeg)]) hC (m1_move l g1) vL_1_move h1_move 0 0 gCl_X1 rfl rfl ⟨rfl, rfl, Nat.le_of_ble_eq_true rfl, Nat.le_of_ble_eq_true rfl⟩ ⟨by show _ ≤ 1200128; omega, by show _ ≤ 5501098; omega⟩ hP hD hl.1 (Nat.le_of_ble_eq_true rfl) dL_law_2047 rfl) hP hD hS (fun r1 u1 H locs f1 hP hD hS => ?_)
  have hP := w3_P hP
  have hD := w3_D hD
  refine lv_aload_n hC.x hC.b dL_law_2050 rfl (lv_at hl 2 rfl) ?_
  refine lv_aload_n hC.x hC.b dL_law_2051 rfl (lv_at hl 4 rfl) ?_
  refine lv_iload hC.x hC.b dL_law_2052 (lv_at hl 0 rfl) ?_
  refine lv_iconst (v := 1) hC.x hC.b dL_law_2054 (by decide) ?_
  refine lv_iadd hC.x hC.b dL_law_2055 ?_
  refine va_sld hC.x hC.b hX hbl hbA hS h1 dL_law_2056 ?_
  refine lv_aload_n hC.x hC.b dL_law_2057 rfl (lv_at hl 4 rfl) ?_
  refine lv_iload hC.x hC.b dL_law_2058 (lv_at hl 0 rfl) ?_
  refine lv_iconst (v := 2) hC.x hC.b dL_law_2060 (by decide) ?_
  refine lv_iadd hC.x hC.b dL_law_2061 ?_
  refine va_sld hC.x hC.b hX hbl hbA hS h2 dL_law_2062 ?_
  refine fg_i hC (fr_V (rest := [.int r1]) (As := [.int (xs (x4 + 1).toNatClampNeg), .int (xs (x4 + 2).toNatClampNeg)]) hC (m6_move l g2) vL_6_move h6_move 0 5 gCl_X6 rfl rfl ⟨rfl, rfl, Nat.le_of_ble_eq_true rfl, Nat.le_of_ble_eq_true rfl⟩ ⟨by show _ ≤ 1200128; omega, by show _ ≤ 5501098; omega⟩ hP hD hl.1 (Nat.le_of_ble_eq_true rfl) dL_law_2063 rfl) hP hD hS (fun r2 u2 H locs f2 hP hD hS => ?_)
  have hP := w3_P (w3_P hP)
  have hD := w3_D (w3_D hD)
  obtain ⟨rfl, f1⟩ := f1
  obtain ⟨rfl, f2⟩ := f2
  refine lv_icmp_eq (tgt := 2315) hC.x hC.b dL_law_2066 (by decide) (fun _ => ?_) (fun c => absurd rfl c)
  refine W.widen (k := cells + 4644) (n := slots + 27909) (by omega) (by omega) ?_
  exact next _ _ _ _ _ _ _ _ _ _ ls (g3 _ _ f1 f2) hP hD hS hl
theorem vL_1_hang : GoodIn lw_all (wsV RX0 233 RX1 yX1_hang (ws_ yX1_hang cX1_hang 3 (some .boolean))) := lw_V q1317 q1318 q1319 q118 q1320
theorem vL_6_hang : GoodIn lw_all (wsV RX0 237 RX6 yX6_hang (ws_ yX6_hang cX6_hang 3 (some .boolean))) := lw_V q2144 q2145 q2146 q126 q2147
abbrev Ob_hang (Inv : Option TD → CS → Option (Nat → Nat) → MS → Prop) (a0 a1 : Int32) : Prop := ObI Inv (fun post tw S => w1_hang post tw S a0 a1) (fun post tw S => w6_hang post tw S a0 a1)
set_option maxHeartbeats 4000000 in
theorem lc_52 {Inv : Option TD → CS → Option (Nat → Nat) → MS → Prop} {w0 t0 : Option Nat} {tw : Option TD} {S : CS} {rdv : Option Nat} {tw' : Option (Nat → Nat)} {S' : MS} {ov : Nat → Int64} (hC : CX RX0 cL_law 7 (some .boolean) D gCl nwG Z Hb A p s m args meth c) (hX : va_X b L xs s s.heap) (hbl : b < s.heap.size) (hbA : ¬ A b) (h1 : vp_in (x4 + 1) L) (h2 : vp_in (x4 + 2) L) (h3 : vp_in (x4 + 3) L) (h4 : vp_in (x4 + 4) L) (h5 : vp_in (x4 + 5) L) (hcl : cells + 4644 ≤ 1200128) (hsl : slots + 27909 ≤ 5501098)
    (hO : Ob_hang Inv (xs (x4 + 1).toNatClampNeg) (xs (x4 + 2).toNatClampNeg)) (hI : Inv tw S tw' S') (hP : va_P D gCl (wL D ad am ao rf w0 t0 tw S rdv tw' S' ov) H) (hD : va_D A (wL D ad am ao rf w0 t0 tw S rdv tw' S' ov)) (hS : va_S A s.heap H locs) (hl : lv_has ls 7 (lL b ad am ao x4))
    (next : ∀ (w0 t0 : Option Nat) (tw : Option TD) (S : CS) (rdv : Option Nat) (tw' : Option (Nat → Nat)) (S' : MS) (ov : Nat → Int64) (H : Heap) (locs : List Loc) (ls : Array Slot), Inv tw S tw' S' → va_P D gCl (wL D ad am ao rf w0 t0 tw S rdv tw' S' ov) H → va_D A (wL D ad am ao rf w0 t0 tw S rdv tw' S' ov) → va_S A s.heap H locs → lv_has ls 7 (lL b ad am ao x4) → W p l e room_1 s m args below meth c H locs (cells + 4644) (slots + 27909) Q (F0 m 2315 ls [])) :
    W p l e room_1 s m args below meth c H locs cells slots Q (F0 m 2071 ls []) := by
  obtain ⟨r, C2, M2, g1, g2, g3⟩ := hO tw S tw' S' hI
  refine lv_aload_n hC.x hC.b dL_law_2071 rfl (lv_at hl 3 rfl) ?_
  refine lv_aload_n hC.x hC.b dL_law_2072 rfl (lv_at hl 4 rfl) ?_
  refine lv_iload hC.x hC.b dL_law_2073 (lv_at hl 0 rfl) ?_
  refine lv_iconst (v := 1) hC.x hC.b dL_law_2075 (by decide) ?_
  refine lv_iadd hC.x hC.b dL_law_2076 ?_
  refine va_sld hC.x hC.b hX hbl hbA hS h1 dL_law_2077 ?_
  refine lv_aload_n hC.x hC.b dL_law_2078 rfl (lv_at hl 4 rfl) ?_
  refine lv_iload hC.x hC.b dL_law_2079 (lv_at hl 0 rfl) ?_
  refine lv_iconst (v := 2) hC.x hC.b dL_law_2081 (by decide) ?_
  refine lv_iadd hC.x hC.b dL_law_2082 ?_
  refine va_sld hC.x hC.b hX hbl hbA hS h2 dL_law_2083 ?_
  refine fg_i hC (fr_V (rest := []) (As := [.int (xs (x4 + 1).toNatClampNeg), .int (xs (x4 + 2).toNatClampNeg)]) hC (m1_hang l g1) vL_1_hang h1_hang 0 0 gCl_X1 rfl rfl ⟨rfl, rfl, Nat.le_of_ble_eq_true rfl, Nat.le_of_ble_eq_true rfl⟩ ⟨by show _ ≤ 1200128; omega, by show _ ≤ 5501098; omega⟩ hP hD hl.1 (Nat.le_of_ble_eq_true rfl) dL_law_2084 rfl) hP hD hS (fun r1 u1 H locs f1 hP hD hS => ?_)
  have hP := w3_P hP
  have hD := w3_D hD
  refine lv_aload_n hC.x hC.b dL_law_2087 rfl (lv_at hl 2 rfl) ?_
  refine lv_aload_n hC.x hC.b dL_law_2088 rfl (lv_at hl 4 rfl) ?_
  refine lv_iload hC.x hC.b dL_law_2089 (lv_at hl 0 rfl) ?_
  refine lv_iconst (v := 1) hC.x hC.b dL_law_2091 (by decide) ?_
  refine lv_iadd hC.x hC.b dL_law_2092 ?_
  refine va_sld hC.x hC.b hX hbl hbA hS h1 dL_law_2093 ?_
  refine lv_aload_n hC.x hC.b dL_law_2094 rfl (lv_at hl 4 rfl) ?_
  refine lv_iload hC.x hC.b dL_law_2095 (lv_at hl 0 rfl) ?_
  refine lv_iconst (v := 2) hC.x hC.b dL_law_2097 (by decide) ?_
  refine lv_iadd hC.x hC.b dL_law_2098 ?_
  refine va_sld hC.x hC.b hX hbl hbA hS h2 dL_law_2099 ?_
  refine fg_i hC (fr_V (rest := [.int r1]) (As := [.int (xs (x4 + 1).toNatClampNeg), .int (xs (x4 + 2).toNatClampNeg)]) hC (m6_hang l g2) vL_6_hang h6_hang 0 5 gCl_X6 rfl rfl ⟨rfl, rfl, Nat.le_of_ble_eq_true rfl, Nat.le_of_ble_eq_true rfl⟩ ⟨by show _ ≤ 1200128; omega, by show _ ≤ 5501098; omega⟩ hP hD hl.1 (Nat.le_of_ble_eq_true rfl) dL_law_2100 rfl) hP hD hS (fun r2 u2 H locs f2 hP hD hS => ?_)
  have hP := w3_P (w3_P hP)
  have hD := w3_D (w3_D hD)
  obtain ⟨rfl, f1⟩ := f1
  obtain ⟨rfl, f2⟩ := f2
  refine lv_icmp_eq (tgt := 2315) hC.x hC.b dL_law_2103 (by decide) (fun _ => ?_) (fun c => absurd rfl c)
  refine W.widen (k := cells + 4644) (n := slots + 27909) (by omega) (by omega) ?_
  exact next _ _ _ _ _ _ _ _ _ _ ls (g3 _ _ f1 f2) hP hD hS hl
theorem vL_1_take : GoodIn lw_all (wsV RX0 238 RX1 yX1_take (ws_ yX1_take cX1_take 2 (some .boolean))) := lw_V q1329 q1330 q1331 q118 q1332
theorem vL_6_take : GoodIn lw_all (wsV RX0 242 RX6 yX6_take (ws_ yX6_take cX6_take 2 (some .boolean))) := lw_V q2160 q2161 q2162 q126 q2163
abbrev Ob_take (Inv : Option TD → CS → Option (Nat → Nat) → MS → Prop) (a0 : Int32) : Prop := ObI Inv (fun post tw S => w1_take post tw S a0) (fun post tw S => w6_take post tw S a0)
set_option maxHeartbeats 4000000 in
theorem lc_53 {Inv : Option TD → CS → Option (Nat → Nat) → MS → Prop} {w0 t0 : Option Nat} {tw : Option TD} {S : CS} {rdv : Option Nat} {tw' : Option (Nat → Nat)} {S' : MS} {ov : Nat → Int64} (hC : CX RX0 cL_law 7 (some .boolean) D gCl nwG Z Hb A p s m args meth c) (hX : va_X b L xs s s.heap) (hbl : b < s.heap.size) (hbA : ¬ A b) (h1 : vp_in (x4 + 1) L) (h2 : vp_in (x4 + 2) L) (h3 : vp_in (x4 + 3) L) (h4 : vp_in (x4 + 4) L) (h5 : vp_in (x4 + 5) L) (hcl : cells + 4644 ≤ 1200128) (hsl : slots + 27909 ≤ 5501098)
    (hO : Ob_take Inv (xs (x4 + 1).toNatClampNeg)) (hI : Inv tw S tw' S') (hP : va_P D gCl (wL D ad am ao rf w0 t0 tw S rdv tw' S' ov) H) (hD : va_D A (wL D ad am ao rf w0 t0 tw S rdv tw' S' ov)) (hS : va_S A s.heap H locs) (hl : lv_has ls 7 (lL b ad am ao x4))
    (next : ∀ (w0 t0 : Option Nat) (tw : Option TD) (S : CS) (rdv : Option Nat) (tw' : Option (Nat → Nat)) (S' : MS) (ov : Nat → Int64) (H : Heap) (locs : List Loc) (ls : Array Slot), Inv tw S tw' S' → va_P D gCl (wL D ad am ao rf w0 t0 tw S rdv tw' S' ov) H → va_D A (wL D ad am ao rf w0 t0 tw S rdv tw' S' ov) → va_S A s.heap H locs → lv_has ls 7 (lL b ad am ao x4) → W p l e room_1 s m args below meth c H locs (cells + 4644) (slots + 27909) Q (F0 m 2315 ls [])) :
    W p l e room_1 s m args below meth c H locs cells slots Q (F0 m 2108 ls []) := by
  obtain ⟨r, C2, M2, g1, g2, g3⟩ := hO tw S tw' S' hI
  refine lv_aload_n hC.x hC.b dL_law_2108 rfl (lv_at hl 3 rfl) ?_
  refine lv_aload_n hC.x hC.b dL_law_2109 rfl (lv_at hl 4 rfl) ?_
  refine lv_iload hC.x hC.b dL_law_2110 (lv_at hl 0 rfl) ?_
  refine lv_iconst (v := 1) hC.x hC.b dL_law_2112 (by decide) ?_
  refine lv_iadd hC.x hC.b dL_law_2113 ?_
  refine va_sld hC.x hC.b hX hbl hbA hS h1 dL_law_2114 ?_
  refine fg_i hC (fr_V (rest := []) (As := [.int (xs (x4 + 1).toNatClampNeg)]) hC (m1_take l g1) vL_1_take h1_take 0 0 gCl_X1 rfl rfl ⟨rfl, rfl, Nat.le_of_ble_eq_true rfl, Nat.le_of_ble_eq_true rfl⟩ ⟨by show _ ≤ 1200128; omega, by show _ ≤ 5501098; omega⟩ hP hD hl.1 (Nat.le_of_ble_eq_true rfl) dL_law_2115 rfl) hP hD hS (fun r1 u1 H locs f1 hP hD hS => ?_)
  have hP := w3_P hP
  have hD := w3_D hD
  refine lv_aload_n hC.x hC.b dL_law_2118 rfl (lv_at hl 2 rfl) ?_
  refine lv_aload_n hC.x hC.b dL_law_2119 rfl (lv_at hl 4 rfl) ?_
  refine lv_iload hC.x hC.b dL_law_2120 (lv_at hl 0 rfl) ?_
  refine lv_iconst (v := 1) hC.x hC.b dL_law_2122 (by decide) ?_
  refine lv_iadd hC.x hC.b dL_law_2123 ?_
  refine va_sld hC.x hC.b hX hbl hbA hS h1 dL_law_2124 ?_
  refine fg_i hC (fr_V (rest := [.int r1]) (As := [.int (xs (x4 + 1).toNatClampNeg)]) hC (m6_take l g2) vL_6_take h6_take 0 5 gCl_X6 rfl rfl ⟨rfl, rfl, Nat.le_of_ble_eq_true rfl, Nat.le_of_ble_eq_true rfl⟩ ⟨by show _ ≤ 1200128; omega, by show _ ≤ 5501098; omega⟩ hP hD hl.1 (Nat.le_of_ble_eq_true rfl) dL_law_2125 rfl) hP hD hS (fun r2 u2 H locs f2 hP hD hS => ?_)
  have hP := w3_P (w3_P hP)
  have hD := w3_D (w3_D hD)
  obtain ⟨rfl, f1⟩ := f1
  obtain ⟨rfl, f2⟩ := f2
  refine lv_icmp_eq (tgt := 2315) hC.x hC.b dL_law_2128 (by decide) (fun _ => ?_) (fun c => absurd rfl c)
  refine W.widen (k := cells + 4644) (n := slots + 27909) (by omega) (by omega) ?_
  exact next _ _ _ _ _ _ _ _ _ _ ls (g3 _ _ f1 f2) hP hD hS hl
theorem vL_1_teach : GoodIn lw_all (wsV RX0 243 RX1 yX1_teach (ws_ yX1_teach cX1_teach 3 (some .boolean))) := lw_V q1333 q1334 q1335 q118 q1336
theorem vL_6_teach : GoodIn lw_all (wsV RX0 246 RX6 yX6_teach (ws_ yX6_teach cX6_teach 3 (some .boolean))) := lw_V q2164 q2165 q2166 q126 q2167
abbrev Ob_teach (Inv : Option TD → CS → Option (Nat → Nat) → MS → Prop) (a0 a1 : Int32) : Prop := ObI Inv (fun post tw S => w1_teach post tw S a0 a1) (fun post tw S => w6_teach post tw S a0 a1)
set_option maxHeartbeats 4000000 in
theorem lc_54 {Inv : Option TD → CS → Option (Nat → Nat) → MS → Prop} {w0 t0 : Option Nat} {tw : Option TD} {S : CS} {rdv : Option Nat} {tw' : Option (Nat → Nat)} {S' : MS} {ov : Nat → Int64} (hC : CX RX0 cL_law 7 (some .boolean) D gCl nwG Z Hb A p s m args meth c) (hX : va_X b L xs s s.heap) (hbl : b < s.heap.size) (hbA : ¬ A b) (h1 : vp_in (x4 + 1) L) (h2 : vp_in (x4 + 2) L) (h3 : vp_in (x4 + 3) L) (h4 : vp_in (x4 + 4) L) (h5 : vp_in (x4 + 5) L) (hcl : cells + 4644 ≤ 1200128) (hsl : slots + 27909 ≤ 5501098)
    (hO : Ob_teach Inv (xs (x4 + 1).toNatClampNeg) (xs (x4 + 2).toNatClampNeg)) (hI : Inv tw S tw' S') (hP : va_P D gCl (wL D ad am ao rf w0 t0 tw S rdv tw' S' ov) H) (hD : va_D A (wL D ad am ao rf w0 t0 tw S rdv tw' S' ov)) (hS : va_S A s.heap H locs) (hl : lv_has ls 7 (lL b ad am ao x4))
    (next : ∀ (w0 t0 : Option Nat) (tw : Option TD) (S : CS) (rdv : Option Nat) (tw' : Option (Nat → Nat)) (S' : MS) (ov : Nat → Int64) (H : Heap) (locs : List Loc) (ls : Array Slot), Inv tw S tw' S' → va_P D gCl (wL D ad am ao rf w0 t0 tw S rdv tw' S' ov) H → va_D A (wL D ad am ao rf w0 t0 tw S rdv tw' S' ov) → va_S A s.heap H locs → lv_has ls 7 (lL b ad am ao x4) → W p l e room_1 s m args below meth c H locs (cells + 4644) (slots + 27909) Q (F0 m 2315 ls [])) :
    W p l e room_1 s m args below meth c H locs cells slots Q (F0 m 2133 ls []) := by
  obtain ⟨r, C2, M2, g1, g2, g3⟩ := hO tw S tw' S' hI
  refine lv_aload_n hC.x hC.b dL_law_2133 rfl (lv_at hl 3 rfl) ?_
  refine lv_aload_n hC.x hC.b dL_law_2134 rfl (lv_at hl 4 rfl) ?_
  refine lv_iload hC.x hC.b dL_law_2135 (lv_at hl 0 rfl) ?_
  refine lv_iconst (v := 1) hC.x hC.b dL_law_2137 (by decide) ?_
  refine lv_iadd hC.x hC.b dL_law_2138 ?_
  refine va_sld hC.x hC.b hX hbl hbA hS h1 dL_law_2139 ?_
  refine lv_aload_n hC.x hC.b dL_law_2140 rfl (lv_at hl 4 rfl) ?_
  refine lv_iload hC.x hC.b dL_law_2141 (lv_at hl 0 rfl) ?_
  refine lv_iconst (v := 2) hC.x hC.b dL_law_2143 (by decide) ?_
  refine lv_iadd hC.x hC.b dL_law_2144 ?_
  refine va_sld hC.x hC.b hX hbl hbA hS h2 dL_law_2145 ?_
  refine fg_i hC (fr_V (rest := []) (As := [.int (xs (x4 + 1).toNatClampNeg), .int (xs (x4 + 2).toNatClampNeg)]) hC (m1_teach l g1) vL_1_teach h1_teach 0 0 gCl_X1 rfl rfl ⟨rfl, rfl, Nat.le_of_ble_eq_true rfl, Nat.le_of_ble_eq_true rfl⟩ ⟨by show _ ≤ 1200128; omega, by show _ ≤ 5501098; omega⟩ hP hD hl.1 (Nat.le_of_ble_eq_true rfl) dL_law_2146 rfl) hP hD hS (fun r1 u1 H locs f1 hP hD hS => ?_)
  have hP := w3_P hP
  have hD := w3_D hD
  refine lv_aload_n hC.x hC.b dL_law_2149 rfl (lv_at hl 2 rfl) ?_
  refine lv_aload_n hC.x hC.b dL_law_2150 rfl (lv_at hl 4 rfl) ?_
  refine lv_iload hC.x hC.b dL_law_2151 (lv_at hl 0 rfl) ?_
  refine lv_iconst (v := 1) hC.x hC.b dL_law_2153 (by decide) ?_
  refine lv_iadd hC.x hC.b dL_law_2154 ?_
  refine va_sld hC.x hC.b hX hbl hbA hS h1 dL_law_2155 ?_
  refine lv_aload_n hC.x hC.b dL_law_2156 rfl (lv_at hl 4 rfl) ?_
  refine lv_iload hC.x hC.b dL_law_2157 (lv_at hl 0 rfl) ?_
  refine lv_iconst (v := 2) hC.x hC.b dL_law_2159 (by decide) ?_
  refine lv_iadd hC.x hC.b dL_law_2160 ?_
  refine va_sld hC.x hC.b hX hbl hbA hS h2 dL_law_2161 ?_
  refine fg_i hC (fr_V (rest := [.int r1]) (As := [.int (xs (x4 + 1).toNatClampNeg), .int (xs (x4 + 2).toNatClampNeg)]) hC (m6_teach l g2) vL_6_teach h6_teach 0 5 gCl_X6 rfl rfl ⟨rfl, rfl, Nat.le_of_ble_eq_true rfl, Nat.le_of_ble_eq_true rfl⟩ ⟨by show _ ≤ 1200128; omega, by show _ ≤ 5501098; omega⟩ hP hD hl.1 (Nat.le_of_ble_eq_true rfl) dL_law_2162 rfl) hP hD hS (fun r2 u2 H locs f2 hP hD hS => ?_)
  have hP := w3_P (w3_P hP)
  have hD := w3_D (w3_D hD)
  obtain ⟨rfl, f1⟩ := f1
  obtain ⟨rfl, f2⟩ := f2
  refine lv_icmp_eq (tgt := 2315) hC.x hC.b dL_law_2165 (by decide) (fun _ => ?_) (fun c => absurd rfl c)
  refine W.widen (k := cells + 4644) (n := slots + 27909) (by omega) (by omega) ?_
  exact next _ _ _ _ _ _ _ _ _ _ ls (g3 _ _ f1 f2) hP hD hS hl
theorem vL_1_undo : GoodIn lw_all (wsV RX0 247 RX1 yX1_undo (ws_ yX1_undo cX1_undo 1 (some .boolean))) := lw_V q1337 q1338 q1339 q118 q1340
theorem vL_6_undo : GoodIn lw_all (wsV RX0 251 RX6 yX6_undo (ws_ yX6_undo cX6_undo 2 (some .boolean))) := lw_V q2168 q2169 q2170 q126 q2171
abbrev Ob_undo (Inv : Option TD → CS → Option (Nat → Nat) → MS → Prop) : Prop := ObI Inv (fun post tw S => w1_undo post S) (fun post tw S => w6_undo post tw S)
set_option maxHeartbeats 4000000 in
theorem lc_55 {Inv : Option TD → CS → Option (Nat → Nat) → MS → Prop} {w0 t0 : Option Nat} {tw : Option TD} {S : CS} {rdv : Option Nat} {tw' : Option (Nat → Nat)} {S' : MS} {ov : Nat → Int64} (hC : CX RX0 cL_law 7 (some .boolean) D gCl nwG Z Hb A p s m args meth c) (hX : va_X b L xs s s.heap) (hbl : b < s.heap.size) (hbA : ¬ A b) (h1 : vp_in (x4 + 1) L) (h2 : vp_in (x4 + 2) L) (h3 : vp_in (x4 + 3) L) (h4 : vp_in (x4 + 4) L) (h5 : vp_in (x4 + 5) L) (hcl : cells + 4644 ≤ 1200128) (hsl : slots + 27909 ≤ 5501098)
    (hO : Ob_undo Inv) (hI : Inv tw S tw' S') (hP : va_P D gCl (wL D ad am ao rf w0 t0 tw S rdv tw' S' ov) H) (hD : va_D A (wL D ad am ao rf w0 t0 tw S rdv tw' S' ov)) (hS : va_S A s.heap H locs) (hl : lv_has ls 7 (lL b ad am ao x4))
    (next : ∀ (w0 t0 : Option Nat) (tw : Option TD) (S : CS) (rdv : Option Nat) (tw' : Option (Nat → Nat)) (S' : MS) (ov : Nat → Int64) (H : Heap) (locs : List Loc) (ls : Array Slot), Inv tw S tw' S' → va_P D gCl (wL D ad am ao rf w0 t0 tw S rdv tw' S' ov) H → va_D A (wL D ad am ao rf w0 t0 tw S rdv tw' S' ov) → va_S A s.heap H locs → lv_has ls 7 (lL b ad am ao x4) → W p l e room_1 s m args below meth c H locs (cells + 4644) (slots + 27909) Q (F0 m 2315 ls [])) :
    W p l e room_1 s m args below meth c H locs cells slots Q (F0 m 2170 ls []) := by
  obtain ⟨r, C2, M2, g1, g2, g3⟩ := hO tw S tw' S' hI
  refine lv_aload_n hC.x hC.b dL_law_2170 rfl (lv_at hl 3 rfl) ?_
  refine fg_i hC (fr_V (rest := []) (As := []) hC (m1_undo l g1) vL_1_undo h1_undo 0 0 gCl_X1 rfl rfl ⟨rfl, rfl, Nat.le_of_ble_eq_true rfl, Nat.le_of_ble_eq_true rfl⟩ ⟨by show _ ≤ 1200128; omega, by show _ ≤ 5501098; omega⟩ hP hD hl.1 (Nat.le_of_ble_eq_true rfl) dL_law_2171 rfl) hP hD hS (fun r1 u1 H locs f1 hP hD hS => ?_)
  have hP := w3_P hP
  have hD := w3_D hD
  refine lv_aload_n hC.x hC.b dL_law_2174 rfl (lv_at hl 2 rfl) ?_
  refine fg_i hC (fr_V (rest := [.int r1]) (As := []) hC (m6_undo l g2) vL_6_undo h6_undo 0 5 gCl_X6 rfl rfl ⟨rfl, rfl, Nat.le_of_ble_eq_true rfl, Nat.le_of_ble_eq_true rfl⟩ ⟨by show _ ≤ 1200128; omega, by show _ ≤ 5501098; omega⟩ hP hD hl.1 (Nat.le_of_ble_eq_true rfl) dL_law_2175 rfl) hP hD hS (fun r2 u2 H locs f2 hP hD hS => ?_)
  have hP := w3_P (w3_P hP)
  have hD := w3_D (w3_D hD)
  obtain ⟨rfl, f1⟩ := f1
  obtain ⟨rfl, f2⟩ := f2
  refine lv_icmp_eq (tgt := 2315) hC.x hC.b dL_law_2178 (by decide) (fun _ => ?_) (fun c => absurd rfl c)
  refine W.widen (k := cells + 4644) (n := slots + 27909) (by omega) (by omega) ?_
  exact next _ _ _ _ _ _ _ _ _ _ ls (g3 _ _ f1 f2) hP hD hS hl
theorem vL_1_image : GoodIn lw_all (wsV RX0 252 RX1 yX1_image (ws_ yX1_image cX1_image 1 (some .int))) := lw_V q1341 q1342 q1343 q118 q1344
theorem vL_6_image : GoodIn lw_all (wsV RX0 255 RX6 yX6_image (ws_ yX6_image cX6_image 2 (some .int))) := lw_V q2172 q2173 q2174 q126 q2175
abbrev Ob_image (Inv : Option TD → CS → Option (Nat → Nat) → MS → Prop) : Prop := ObI Inv (fun post tw S => w1_image post tw S) (fun post tw S => w6_image post tw S)
set_option maxHeartbeats 4000000 in
theorem lc_56 {Inv : Option TD → CS → Option (Nat → Nat) → MS → Prop} {w0 t0 : Option Nat} {tw : Option TD} {S : CS} {rdv : Option Nat} {tw' : Option (Nat → Nat)} {S' : MS} {ov : Nat → Int64} (hC : CX RX0 cL_law 7 (some .boolean) D gCl nwG Z Hb A p s m args meth c) (hX : va_X b L xs s s.heap) (hbl : b < s.heap.size) (hbA : ¬ A b) (h1 : vp_in (x4 + 1) L) (h2 : vp_in (x4 + 2) L) (h3 : vp_in (x4 + 3) L) (h4 : vp_in (x4 + 4) L) (h5 : vp_in (x4 + 5) L) (hcl : cells + 4644 ≤ 1200128) (hsl : slots + 27909 ≤ 5501098)
    (hO : Ob_image Inv) (hI : Inv tw S tw' S') (hP : va_P D gCl (wL D ad am ao rf w0 t0 tw S rdv tw' S' ov) H) (hD : va_D A (wL D ad am ao rf w0 t0 tw S rdv tw' S' ov)) (hS : va_S A s.heap H locs) (hl : lv_has ls 7 (lL b ad am ao x4))
    (next : ∀ (w0 t0 : Option Nat) (tw : Option TD) (S : CS) (rdv : Option Nat) (tw' : Option (Nat → Nat)) (S' : MS) (ov : Nat → Int64) (H : Heap) (locs : List Loc) (ls : Array Slot), Inv tw S tw' S' → va_P D gCl (wL D ad am ao rf w0 t0 tw S rdv tw' S' ov) H → va_D A (wL D ad am ao rf w0 t0 tw S rdv tw' S' ov) → va_S A s.heap H locs → lv_has ls 7 (lL b ad am ao x4) → W p l e room_1 s m args below meth c H locs (cells + 4644) (slots + 27909) Q (F0 m 2315 ls [])) :
    W p l e room_1 s m args below meth c H locs cells slots Q (F0 m 2183 ls []) := by
  obtain ⟨r, C2, M2, g1, g2, g3⟩ := hO tw S tw' S' hI
  refine lv_aload_n hC.x hC.b dL_law_2183 rfl (lv_at hl 3 rfl) ?_
  refine fg_i hC (fr_V (rest := []) (As := []) hC (m1_image l g1) vL_1_image h1_image 0 0 gCl_X1 rfl rfl ⟨rfl, rfl, Nat.le_of_ble_eq_true rfl, Nat.le_of_ble_eq_true rfl⟩ ⟨by show _ ≤ 1200128; omega, by show _ ≤ 5501098; omega⟩ hP hD hl.1 (Nat.le_of_ble_eq_true rfl) dL_law_2184 rfl) hP hD hS (fun r1 u1 H locs f1 hP hD hS => ?_)
  have hP := w3_P hP
  have hD := w3_D hD
  refine lv_aload_n hC.x hC.b dL_law_2187 rfl (lv_at hl 2 rfl) ?_
  refine fg_i hC (fr_V (rest := [.int r1]) (As := []) hC (m6_image l g2) vL_6_image h6_image 0 5 gCl_X6 rfl rfl ⟨rfl, rfl, Nat.le_of_ble_eq_true rfl, Nat.le_of_ble_eq_true rfl⟩ ⟨by show _ ≤ 1200128; omega, by show _ ≤ 5501098; omega⟩ hP hD hl.1 (Nat.le_of_ble_eq_true rfl) dL_law_2188 rfl) hP hD hS (fun r2 u2 H locs f2 hP hD hS => ?_)
  have hP := w3_P (w3_P hP)
  have hD := w3_D (w3_D hD)
  obtain ⟨rfl, f1⟩ := f1
  obtain ⟨rfl, f2⟩ := f2
  refine lv_icmp_eq (tgt := 2315) hC.x hC.b dL_law_2191 (by decide) (fun _ => ?_) (fun c => absurd rfl c)
  refine W.widen (k := cells + 4644) (n := slots + 27909) (by omega) (by omega) ?_
  exact next _ _ _ _ _ _ _ _ _ _ ls (g3 _ _ f1 f2) hP hD hS hl
theorem vL_1_back : GoodIn lw_all (wsV RX0 256 RX1 yX1_back (ws_ yX1_back cX1_back 2 (some .boolean))) := lw_V q1345 q1346 q1347 q118 q1348
theorem vL_6_back : GoodIn lw_all (wsV RX0 259 RX6 yX6_back (ws_ yX6_back cX6_back 3 (some .boolean))) := lw_V q2176 q2177 q2178 q126 q2179
abbrev Ob_back (Inv : Option TD → CS → Option (Nat → Nat) → MS → Prop) (a0 : Int32) : Prop := ObI Inv (fun post tw S => w1_back post S a0) (fun post tw S => w6_back post tw S a0)
set_option maxHeartbeats 4000000 in
theorem lc_57 {Inv : Option TD → CS → Option (Nat → Nat) → MS → Prop} {w0 t0 : Option Nat} {tw : Option TD} {S : CS} {rdv : Option Nat} {tw' : Option (Nat → Nat)} {S' : MS} {ov : Nat → Int64} (hC : CX RX0 cL_law 7 (some .boolean) D gCl nwG Z Hb A p s m args meth c) (hX : va_X b L xs s s.heap) (hbl : b < s.heap.size) (hbA : ¬ A b) (h1 : vp_in (x4 + 1) L) (h2 : vp_in (x4 + 2) L) (h3 : vp_in (x4 + 3) L) (h4 : vp_in (x4 + 4) L) (h5 : vp_in (x4 + 5) L) (hcl : cells + 4644 ≤ 1200128) (hsl : slots + 27909 ≤ 5501098)
    (hO : Ob_back Inv (xs (x4 + 1).toNatClampNeg)) (hI : Inv tw S tw' S') (hP : va_P D gCl (wL D ad am ao rf w0 t0 tw S rdv tw' S' ov) H) (hD : va_D A (wL D ad am ao rf w0 t0 tw S rdv tw' S' ov)) (hS : va_S A s.heap H locs) (hl : lv_has ls 7 (lL b ad am ao x4))
    (next : ∀ (w0 t0 : Option Nat) (tw : Option TD) (S : CS) (rdv : Option Nat) (tw' : Option (Nat → Nat)) (S' : MS) (ov : Nat → Int64) (H : Heap) (locs : List Loc) (ls : Array Slot), Inv tw S tw' S' → va_P D gCl (wL D ad am ao rf w0 t0 tw S rdv tw' S' ov) H → va_D A (wL D ad am ao rf w0 t0 tw S rdv tw' S' ov) → va_S A s.heap H locs → lv_has ls 7 (lL b ad am ao x4) → W p l e room_1 s m args below meth c H locs (cells + 4644) (slots + 27909) Q (F0 m 2315 ls [])) :
    W p l e room_1 s m args below meth c H locs cells slots Q (F0 m 2196 ls []) := by
  obtain ⟨r, C2, M2, g1, g2, g3⟩ := hO tw S tw' S' hI
  refine lv_aload_n hC.x hC.b dL_law_2196 rfl (lv_at hl 3 rfl) ?_
  refine lv_aload_n hC.x hC.b dL_law_2197 rfl (lv_at hl 4 rfl) ?_
  refine lv_iload hC.x hC.b dL_law_2198 (lv_at hl 0 rfl) ?_
  refine lv_iconst (v := 1) hC.x hC.b dL_law_2200 (by decide) ?_
  refine lv_iadd hC.x hC.b dL_law_2201 ?_
  refine va_sld hC.x hC.b hX hbl hbA hS h1 dL_law_2202 ?_
  refine fg_i hC (fr_V (rest := []) (As := [.int (xs (x4 + 1).toNatClampNeg)]) hC (m1_back l g1) vL_1_back h1_back 0 0 gCl_X1 rfl rfl ⟨rfl, rfl, Nat.le_of_ble_eq_true rfl, Nat.le_of_ble_eq_true rfl⟩ ⟨by show _ ≤ 1200128; omega, by show _ ≤ 5501098; omega⟩ hP hD hl.1 (Nat.le_of_ble_eq_true rfl) dL_law_2203 rfl) hP hD hS (fun r1 u1 H locs f1 hP hD hS => ?_)
  have hP := w3_P hP
  have hD := w3_D hD
  refine lv_aload_n hC.x hC.b dL_law_2206 rfl (lv_at hl 2 rfl) ?_
  refine lv_aload_n hC.x hC.b dL_law_2207 rfl (lv_at hl 4 rfl) ?_
  refine lv_iload hC.x hC.b dL_law_2208 (lv_at hl 0 rfl) ?_
  refine lv_iconst (v := 1) hC.x hC.b dL_law_2210 (by decide) ?_
  refine lv_iadd hC.x hC.b dL_law_2211 ?_
  refine va_sld hC.x hC.b hX hbl hbA hS h1 dL_law_2212 ?_
  refine fg_i hC (fr_V (rest := [.int r1]) (As := [.int (xs (x4 + 1).toNatClampNeg)]) hC (m6_back l g2) vL_6_back h6_back 0 5 gCl_X6 rfl rfl ⟨rfl, rfl, Nat.le_of_ble_eq_true rfl, Nat.le_of_ble_eq_true rfl⟩ ⟨by show _ ≤ 1200128; omega, by show _ ≤ 5501098; omega⟩ hP hD hl.1 (Nat.le_of_ble_eq_true rfl) dL_law_2213 rfl) hP hD hS (fun r2 u2 H locs f2 hP hD hS => ?_)
  have hP := w3_P (w3_P hP)
  have hD := w3_D (w3_D hD)
  obtain ⟨rfl, f1⟩ := f1
  obtain ⟨rfl, f2⟩ := f2
  refine lv_icmp_eq (tgt := 2315) hC.x hC.b dL_law_2216 (by decide) (fun _ => ?_) (fun c => absurd rfl c)
  refine W.widen (k := cells + 4644) (n := slots + 27909) (by omega) (by omega) ?_
  exact next _ _ _ _ _ _ _ _ _ _ ls (g3 _ _ f1 f2) hP hD hS hl
theorem vL_1_size : GoodIn lw_all (wsV RX0 269 RX1 yX1_size (ws_ yX1_size cX1_size 2 (some .int))) := lw_V q1349 q1350 q1351 q118 q1352
theorem vL_6_size : GoodIn lw_all (wsV RX0 272 RX6 yX6_size (ws_ yX6_size cX6_size 2 (some .int))) := lw_V q2184 q2185 q2186 q126 q2187
abbrev Ob_size (Inv : Option TD → CS → Option (Nat → Nat) → MS → Prop) (a0 : Int32) : Prop := ObI Inv (fun post tw S => w1_size (fun p => post p S) tw S a0) (fun post tw S => w6_size post tw S a0)
set_option maxHeartbeats 4000000 in
theorem lc_59 {Inv : Option TD → CS → Option (Nat → Nat) → MS → Prop} {w0 t0 : Option Nat} {tw : Option TD} {S : CS} {rdv : Option Nat} {tw' : Option (Nat → Nat)} {S' : MS} {ov : Nat → Int64} (hC : CX RX0 cL_law 7 (some .boolean) D gCl nwG Z Hb A p s m args meth c) (hX : va_X b L xs s s.heap) (hbl : b < s.heap.size) (hbA : ¬ A b) (h1 : vp_in (x4 + 1) L) (h2 : vp_in (x4 + 2) L) (h3 : vp_in (x4 + 3) L) (h4 : vp_in (x4 + 4) L) (h5 : vp_in (x4 + 5) L) (hcl : cells + 4644 ≤ 1200128) (hsl : slots + 27909 ≤ 5501098)
    (hO : Ob_size Inv (xs (x4 + 1).toNatClampNeg)) (hI : Inv tw S tw' S') (hP : va_P D gCl (wL D ad am ao rf w0 t0 tw S rdv tw' S' ov) H) (hD : va_D A (wL D ad am ao rf w0 t0 tw S rdv tw' S' ov)) (hS : va_S A s.heap H locs) (hl : lv_has ls 7 (lL b ad am ao x4))
    (next : ∀ (w0 t0 : Option Nat) (tw : Option TD) (S : CS) (rdv : Option Nat) (tw' : Option (Nat → Nat)) (S' : MS) (ov : Nat → Int64) (H : Heap) (locs : List Loc) (ls : Array Slot), Inv tw S tw' S' → va_P D gCl (wL D ad am ao rf w0 t0 tw S rdv tw' S' ov) H → va_D A (wL D ad am ao rf w0 t0 tw S rdv tw' S' ov) → va_S A s.heap H locs → lv_has ls 7 (lL b ad am ao x4) → W p l e room_1 s m args below meth c H locs (cells + 4644) (slots + 27909) Q (F0 m 2315 ls [])) :
    W p l e room_1 s m args below meth c H locs cells slots Q (F0 m 2277 ls []) := by
  obtain ⟨r, C2, M2, g1, g2, g3⟩ := hO tw S tw' S' hI
  refine lv_aload_n hC.x hC.b dL_law_2277 rfl (lv_at hl 3 rfl) ?_
  refine lv_aload_n hC.x hC.b dL_law_2278 rfl (lv_at hl 4 rfl) ?_
  refine lv_iload hC.x hC.b dL_law_2279 (lv_at hl 0 rfl) ?_
  refine lv_iconst (v := 1) hC.x hC.b dL_law_2281 (by decide) ?_
  refine lv_iadd hC.x hC.b dL_law_2282 ?_
  refine va_sld hC.x hC.b hX hbl hbA hS h1 dL_law_2283 ?_
  refine fg_i hC (fr_V (rest := []) (As := [.int (xs (x4 + 1).toNatClampNeg)]) hC (m1_size l g1) vL_1_size h1_size 0 0 gCl_X1 rfl rfl ⟨rfl, rfl, Nat.le_of_ble_eq_true rfl, Nat.le_of_ble_eq_true rfl⟩ ⟨by show _ ≤ 1200128; omega, by show _ ≤ 5501098; omega⟩ hP hD hl.1 (Nat.le_of_ble_eq_true rfl) dL_law_2284 rfl) hP hD hS (fun r1 u1 H locs f1 hP hD hS => ?_)
  have hP := w3_P hP
  have hD := w3_D hD
  refine lv_aload_n hC.x hC.b dL_law_2287 rfl (lv_at hl 2 rfl) ?_
  refine lv_aload_n hC.x hC.b dL_law_2288 rfl (lv_at hl 4 rfl) ?_
  refine lv_iload hC.x hC.b dL_law_2289 (lv_at hl 0 rfl) ?_
  refine lv_iconst (v := 1) hC.x hC.b dL_law_2291 (by decide) ?_
  refine lv_iadd hC.x hC.b dL_law_2292 ?_
  refine va_sld hC.x hC.b hX hbl hbA hS h1 dL_law_2293 ?_
  refine fg_i hC (fr_V (rest := [.int r1]) (As := [.int (xs (x4 + 1).toNatClampNeg)]) hC (m6_size l g2) vL_6_size h6_size 0 5 gCl_X6 rfl rfl ⟨rfl, rfl, Nat.le_of_ble_eq_true rfl, Nat.le_of_ble_eq_true rfl⟩ ⟨by show _ ≤ 1200128; omega, by show _ ≤ 5501098; omega⟩ hP hD hl.1 (Nat.le_of_ble_eq_true rfl) dL_law_2294 rfl) hP hD hS (fun r2 u2 H locs f2 hP hD hS => ?_)
  have hP := w3_P (w3_P hP)
  have hD := w3_D (w3_D hD)
  obtain ⟨rfl, f1⟩ := f1
  obtain ⟨rfl, f2⟩ := f2
  refine lv_icmp_eq (tgt := 2315) hC.x hC.b dL_law_2297 (by decide) (fun _ => ?_) (fun c => absurd rfl c)
  refine W.widen (k := cells + 4644) (n := slots + 27909) (by omega) (by omega) ?_
  exact next _ _ _ _ _ _ _ _ _ _ ls (g3 _ _ f1 f2) hP hD hS hl
theorem vL_1_trouble : GoodIn lw_all (wsV RX0 273 RX1 yX1_trouble (ws_ yX1_trouble cX1_trouble 1 (some .int))) := lw_V q1357 q1358 q1359 q118 q1360
theorem vL_6_trouble : GoodIn lw_all (wsV RX0 276 RX6 yX6_trouble (ws_ yX6_trouble cX6_trouble 1 (some .int))) := lw_V q2192 q2193 q2194 q126 q2195
abbrev Ob_trouble (Inv : Option TD → CS → Option (Nat → Nat) → MS → Prop) : Prop := ObI Inv (fun post tw S => w1_trouble (fun p => post p S) S) (fun post tw S => w6_trouble post S)
set_option maxHeartbeats 4000000 in
theorem lc_60 {Inv : Option TD → CS → Option (Nat → Nat) → MS → Prop} {w0 t0 : Option Nat} {tw : Option TD} {S : CS} {rdv : Option Nat} {tw' : Option (Nat → Nat)} {S' : MS} {ov : Nat → Int64} (hC : CX RX0 cL_law 7 (some .boolean) D gCl nwG Z Hb A p s m args meth c) (hX : va_X b L xs s s.heap) (hbl : b < s.heap.size) (hbA : ¬ A b) (h1 : vp_in (x4 + 1) L) (h2 : vp_in (x4 + 2) L) (h3 : vp_in (x4 + 3) L) (h4 : vp_in (x4 + 4) L) (h5 : vp_in (x4 + 5) L) (hcl : cells + 4644 ≤ 1200128) (hsl : slots + 27909 ≤ 5501098)
    (hO : Ob_trouble Inv) (hI : Inv tw S tw' S') (hP : va_P D gCl (wL D ad am ao rf w0 t0 tw S rdv tw' S' ov) H) (hD : va_D A (wL D ad am ao rf w0 t0 tw S rdv tw' S' ov)) (hS : va_S A s.heap H locs) (hl : lv_has ls 7 (lL b ad am ao x4))
    (next : ∀ (w0 t0 : Option Nat) (tw : Option TD) (S : CS) (rdv : Option Nat) (tw' : Option (Nat → Nat)) (S' : MS) (ov : Nat → Int64) (H : Heap) (locs : List Loc) (ls : Array Slot), Inv tw S tw' S' → va_P D gCl (wL D ad am ao rf w0 t0 tw S rdv tw' S' ov) H → va_D A (wL D ad am ao rf w0 t0 tw S rdv tw' S' ov) → va_S A s.heap H locs → lv_has ls 7 (lL b ad am ao x4) → W p l e room_1 s m args below meth c H locs (cells + 4644) (slots + 27909) Q (F0 m 2315 ls [])) :
    W p l e room_1 s m args below meth c H locs cells slots Q (F0 m 2302 ls []) := by
  obtain ⟨r, C2, M2, g1, g2, g3⟩ := hO tw S tw' S' hI
  refine lv_aload_n hC.x hC.b dL_law_2302 rfl (lv_at hl 3 rfl) ?_
  refine fg_i hC (fr_V (rest := []) (As := []) hC (m1_trouble l g1) vL_1_trouble h1_trouble 0 0 gCl_X1 rfl rfl ⟨rfl, rfl, Nat.le_of_ble_eq_true rfl, Nat.le_of_ble_eq_true rfl⟩ ⟨by show _ ≤ 1200128; omega, by show _ ≤ 5501098; omega⟩ hP hD hl.1 (Nat.le_of_ble_eq_true rfl) dL_law_2303 rfl) hP hD hS (fun r1 u1 H locs f1 hP hD hS => ?_)
  have hP := w3_P hP
  have hD := w3_D hD
  refine lv_aload_n hC.x hC.b dL_law_2306 rfl (lv_at hl 2 rfl) ?_
  refine fg_i hC (fr_V (rest := [.int r1]) (As := []) hC (m6_trouble l g2) vL_6_trouble h6_trouble 0 5 gCl_X6 rfl rfl ⟨rfl, rfl, Nat.le_of_ble_eq_true rfl, Nat.le_of_ble_eq_true rfl⟩ ⟨by show _ ≤ 1200128; omega, by show _ ≤ 5501098; omega⟩ hP hD hl.1 (Nat.le_of_ble_eq_true rfl) dL_law_2307 rfl) hP hD hS (fun r2 u2 H locs f2 hP hD hS => ?_)
  have hP := w3_P (w3_P hP)
  have hD := w3_D (w3_D hD)
  obtain ⟨rfl, f1⟩ := f1
  obtain ⟨rfl, f2⟩ := f2
  refine lv_icmp_eq (tgt := 2315) hC.x hC.b dL_law_2310 (by decide) (fun _ => ?_) (fun c => absurd rfl c)
  refine W.widen (k := cells + 4644) (n := slots + 27909) (by omega) (by omega) ?_
  exact next _ _ _ _ _ _ _ _ _ _ ls (g3 _ _ f1 f2) hP hD hS hl
end LAWC
