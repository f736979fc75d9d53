set_option maxRecDepth 100000
/-! texts: made out of chars; their hash -/
def hB (bs : List Int32) : Int32 := bs.foldl (fun h b => 31 * h + (b &&& 255)) 0
def hv (bs : List Int32) (hd : Bool) : Int32 := if hd = true then hB bs else 0
def zv (bs : List Int32) (hd : Bool) : Int32 := if hd = true then (if hB bs = 0 then 1 else 0) else 0
def sO (b : Nat) (bs : List Int32) (hd : Bool) : va_E := .inr (13, [.ref b, .int 0, .int (hv bs hd), .int (zv bs hd)])
def sB (D : va_G) (bs : List Int32) : va_E := .inl (D.1 102, bs.length, .inl (fun j => bs.getD j 0))
def sF (cf : Nat → Int32) (i : Nat) : Nat → Int32 := fun j => if j < i then cf j else 0
theorem s_b7 : ∀ k : Nat, k < 128 → (nI k).toInt8.toInt32.toInt8.toInt32 = nI k := by decide +kernel
theorem s_rc : ∀ nC : Nat, nC < 9 → ∀ n : Nat, n < 9 → n ≤ nC → ¬ ((nI nC ||| 0) ||| nI n) < 0 ∧ nI n ≤ nI nC - 0 := by decide +kernel
section S2
variable {D : va_G} {Z : State → Prop} {Hb : Heap} {A : Nat → Prop} {w : va_W}
theorem sF_up {cf : Nat → Int32} {i : Nat} {v : Int32} (h : cf i = v) : upd (sF cf i) i v = sF cf (i + 1) := by
  funext j
  unfold upd sF
  by_cases e : j = i
  · subst e; simp [h]
  · have : (j < i + 1) ↔ j < i := by omega
    simp [e, this]
theorem hJ5_compress_2 : yJ5_compress_2.cls ≠ "java/lang/invoke/MethodHandle" ∧ yJ5_compress_2.cls ≠ "java/lang/invoke/VarHandle" ∧ (parseMethodDescriptor yJ5_compress_2.desc).map (fun d => d.parameters.length) = some 5 := by decide +kernel
set_option maxHeartbeats 4000000 in
theorem mJ5_compress_2 (l : Launch) {x0 b0 nC n q : Nat} {cf : Nat → Int32} (hq : q < w.length) (hc : w[q]? = some (x0, .inl (D.1 103, nC, .inl cf))) (hn : n ≤ nC) (hN : nC < 1000) (hcf : ∀ j, j < n → ∃ k : Nat, k < 128 ∧ cf j = nI k) :
    Met l yJ5_compress_2 (ws_ yJ5_compress_2 cJ5_compress_2 7 (some .int)) ({ frames := 0, cells := 0, slots := 0, locals := 0 } : Room) (va_Pc [.ref x0, .int 0, .ref b0, .int 0, .int (nI n)] (PcG D gCl nwG Z Hb A (w ++ [(b0, .inl (D.1 102, n, .inl (fun _ => 0)))]))) (va_Qi (fun r (_ : Unit) => r = nI n) (BW D gCl A (fun _ => w ++ [(b0, .inl (D.1 102, n, .inl (sF cf n)))])) A) 0 0 A := by
  refine Met.ofG (by decide) (Nat.le_of_ble_eq_true rfl) ?_
  intro p e s m below meth c ls hC _ hP hD hS hl
  have hC : CX RJ5 cJ5_compress_2 7 (some .int) D gCl nwG Z Hb A p s m _ meth c := hC
  have hl : lv_has ls 7 [(0, .ref x0), (1, .int 0), (2, .ref b0), (3, .int 0), (4, .int (nI n))] := hl
  have key : ∀ (k i : Nat), i + k = n → ∀ (H : Heap) (locs : List Loc) (ls : Array Slot), va_P D gCl (w ++ [(b0, .inl (D.1 102, n, .inl (sF cf i)))]) H → va_D A (w ++ [(b0, .inl (D.1 102, n, .inl (sF cf i)))]) → va_S A s.heap H locs → lv_has ls 7 [(0, .ref x0), (1, .int (nI i)), (2, .ref b0), (3, .int (nI i)), (4, .int (nI n)), (5, .int (nI i))] → W p l e ({ frames := 0, cells := 0, slots := 0, locals := 0 } : Room) s m [Value.ref x0, .int 0, .ref b0, .int 0, .int (nI n)].toArray below meth c H locs 0 0 (MQ below (va_Qi (fun r (_ : Unit) => r = nI n) (BW D gCl A (fun _ => w ++ [(b0, .inl (D.1 102, n, .inl (sF cf n)))])) A) [Value.ref x0, .int 0, .ref b0, .int 0, .int (nI n)].toArray s 0 0 A) (F0 m 3 ls []) := by
    intro k
    induction k with
    | zero =>
      intro i hi H locs ls hP hD hS hl
      have hi : i = n := by omega
      subst hi
      refine lv_iload hC.x hC.b dJ5_compress_2_3 (lv_at hl 5 rfl) ?_
      refine lv_iload hC.x hC.b dJ5_compress_2_5 (lv_at hl 4 rfl) ?_
      refine lv_icmp_ge (tgt := 44) hC.x hC.b dJ5_compress_2_7 (by decide) (fun _ => ?_) (fun c => absurd (Int32.le_refl _) c)
      refine lv_iload hC.x hC.b dJ5_compress_2_44 (lv_at hl 4 rfl) ?_
      exact rt_i (u := ()) hC rfl hP hD hS dJ5_compress_2_46
    | succ k ih =>
      intro i hi H locs ls hP hD hS hl
      have hlt : i < n := by omega
      obtain ⟨k0, hk0, e0⟩ := hcf i hlt
      refine lv_iload hC.x hC.b dJ5_compress_2_3 (lv_at hl 5 rfl) ?_
      refine lv_iload hC.x hC.b dJ5_compress_2_5 (lv_at hl 4 rfl) ?_
      refine lv_icmp_ge (tgt := 44) hC.x hC.b dJ5_compress_2_7 (by decide) (fun c => absurd c (nI_ge hlt (by omega))) (fun _ => ?_)
      refine lv_aload_n hC.x hC.b dJ5_compress_2_10 rfl (lv_at hl 0 rfl) ?_
      refine lv_iload_n hC.x hC.b dJ5_compress_2_11 rfl (lv_at hl 1 rfl) ?_
      refine va_cald hC.x hC.b hC.K.1 hP q 3 (by rw [List.getElem?_append_left hq]; exact hc) rfl (vp_in_nI (by omega) (by omega)) dJ5_compress_2_12 ?_
      rw [nI_clamp (by omega), e0]
      refine lv_istore (lv' := [(6, .int (nI k0)), (0, .ref x0), (1, .int (nI i)), (2, .ref b0), (3, .int (nI i)), (4, .int (nI n)), (5, .int (nI i))]) hC.x hC.b dJ5_compress_2_13 hl (by decide) rfl (fun ls hl => ?_)
      refine lv_iload hC.x hC.b dJ5_compress_2_15 (lv_at hl 0 rfl) ?_
      refine lv_sipush (v := 255) hC.x hC.b dJ5_compress_2_17 (by decide) ?_
      refine lv_icmp_le (tgt := 26) hC.x hC.b dJ5_compress_2_20 (by decide) (fun _ => ?_) (fun c => absurd (show nI k0 ≤ nI 255 from nI_le (by omega) (by omega)) c)
      refine lv_aload_n hC.x hC.b dJ5_compress_2_26 rfl (lv_at hl 3 rfl) ?_
      refine lv_iload_n hC.x hC.b dJ5_compress_2_27 rfl (lv_at hl 4 rfl) ?_
      refine lv_iload hC.x hC.b dJ5_compress_2_28 (lv_at hl 0 rfl) ?_
      refine lv_i2b (v := (nI k0).toInt8.toInt32) hC.x hC.b dJ5_compress_2_30 rfl ?_
      refine va_bast hC.x hC.b hC.K.1 hP hD hS w.length 2 (ap_at w _ 0) rfl (vp_in_nI hlt (by omega)) dJ5_compress_2_31 (fun H locs hP hD hS => ?_)
      rw [show w.length = w.length + 0 from rfl, ap_set, nI_clamp (by omega), vp_nar_byte, s_b7 k0 hk0] at hP hD
      have hP : va_P D gCl (w ++ [(b0, .inl (D.1 102, n, .inl (upd (sF cf i) i (nI k0))))]) H := hP
      have hD : va_D A (w ++ [(b0, .inl (D.1 102, n, .inl (upd (sF cf i) i (nI k0))))]) := hD
      rw [sF_up e0] at hP hD
      refine lv_iinc (v := nI (i + 1)) (lv' := [(1, .int (nI (i + 1))), (6, .int (nI k0)), (0, .ref x0), (2, .ref b0), (3, .int (nI i)), (4, .int (nI n)), (5, .int (nI i))]) hC.x hC.b dJ5_compress_2_32 hl (k := 2) rfl (nI_succ i).symm (by decide) rfl (fun ls hl => ?_)
      refine lv_iinc (v := nI (i + 1)) (lv' := [(3, .int (nI (i + 1))), (1, .int (nI (i + 1))), (6, .int (nI k0)), (0, .ref x0), (2, .ref b0), (4, .int (nI n)), (5, .int (nI i))]) hC.x hC.b dJ5_compress_2_35 hl (k := 4) rfl (nI_succ i).symm (by decide) rfl (fun ls hl => ?_)
      refine lv_iinc (v := nI (i + 1)) (lv' := [(5, .int (nI (i + 1))), (3, .int (nI (i + 1))), (1, .int (nI (i + 1))), (6, .int (nI k0)), (0, .ref x0), (2, .ref b0), (4, .int (nI n))]) hC.x hC.b dJ5_compress_2_38 hl (k := 6) rfl (nI_succ i).symm (by decide) rfl (fun ls hl => ?_)
      refine lv_goto (tgt := 3) hC.x hC.b dJ5_compress_2_41 (by decide) ?_
      exact ih (i + 1) (by omega) H locs ls hP hD hS (lv_sub hl [4, 2, 5, 1, 6, 0] rfl)
  refine lv_iconst (v := 0) hC.x hC.b dJ5_compress_2_0 (by decide) ?_
  refine lv_istore (lv' := [(5, .int 0), (0, .ref x0), (1, .int 0), (2, .ref b0), (3, .int 0), (4, .int (nI n))]) hC.x hC.b dJ5_compress_2_1 hl (by decide) rfl (fun ls hl => ?_)
  exact key n 0 (by omega) s.heap [] ls hP hD hS (lv_sub hl [1, 2, 3, 4, 5, 0] rfl)
theorem vJ5_J5_compress_2 : GoodIn lw_all (va_wsS RJ5 115 yJ5_compress_2 (ws_ yJ5_compress_2 cJ5_compress_2 7 (some .int))) := lw_S q555 q556 q130 q557
def bsOf (cf : Nat → Int32) (n : Nat) : List Int32 := (List.range n).map cf
theorem bsOf_len {cf : Nat → Int32} {n : Nat} : (bsOf cf n).length = n := by simp [bsOf]
theorem bsOf_fn {cf : Nat → Int32} {n : Nat} : sF cf n = fun j => (bsOf cf n).getD j 0 := by
  funext j
  unfold sF bsOf
  by_cases h : j < n
  · simp [h, List.getD_eq_getElem?_getD]
  · simp [h, List.getD_eq_getElem?_getD, List.getElem?_eq_none (show ((List.range n).map cf).length ≤ j by simp; omega)]
theorem sB_of {cf : Nat → Int32} {n : Nat} : (.inl (D.1 102, n, .inl (sF cf n)) : va_E) = sB D (bsOf cf n) := by
  unfold sB
  rw [bsOf_len, bsOf_fn]
theorem hJ5_compress : yJ5_compress.cls ≠ "java/lang/invoke/MethodHandle" ∧ yJ5_compress.cls ≠ "java/lang/invoke/VarHandle" ∧ (parseMethodDescriptor yJ5_compress.desc).map (fun d => d.parameters.length) = some 3 := by decide +kernel
set_option maxHeartbeats 4000000 in
theorem mJ5_compress (l : Launch) {x0 nC n q : Nat} {cf : Nat → Int32} (hq : q < w.length) (hc : w[q]? = some (x0, .inl (D.1 103, nC, .inl cf))) (hn : n ≤ nC) (hN : nC ≤ 8) (hcf : ∀ j, j < n → ∃ k : Nat, k < 128 ∧ cf j = nI k) :
    Met l yJ5_compress (ws_ yJ5_compress cJ5_compress 6 (some (.array .byte))) ({ frames := 1, cells := 1, slots := 8, locals := 60 } : Room) (va_Pc [.ref x0, .int 0, .int (nI n)] (PcG D gCl nwG Z Hb A w)) (va_Qr (fun (_ : Unit) => True) (fun _ a t => va_P D gCl (w ++ [(a, sB D (bsOf cf n))]) t.heap ∧ va_D A (w ++ [(a, sB D (bsOf cf n))])) A) 1 8 A := by
  refine Met.ofG (by decide) (Nat.le_of_ble_eq_true rfl) ?_
  intro p e s m below meth c ls hC _ hP hD hS hl
  have hC : CX RJ5 cJ5_compress 6 (some (.array .byte)) D gCl nwG Z Hb A p s m _ meth c := hC
  have hl : lv_has ls 6 [(0, .ref x0), (1, .int 0), (2, .int (nI n))] := hl
  have hP : va_P D gCl (w ++ []) s.heap := by rw [List.append_nil]; exact hP
  have hD : va_D A (w ++ []) := by rw [List.append_nil]; exact hD
  refine lv_iload_n hC.x hC.b dJ5_compress_0 rfl (lv_at hl 2 rfl) ?_
  refine i_newB hC hP hD hS (N := n) (by rw [Int32.lt_iff_toInt_lt, nI_toInt (by omega)]; show ¬ (n : Int) < 0; omega) (nI_clamp (by omega)) (by omega) (Nat.le_of_ble_eq_true rfl) (by show 0 + n ≤ 8; omega) dJ5_compress_1 (fun b H hP hD hS => ?_)
  have hP : va_P D gCl (w ++ [(b, .inl (D.1 102, n, .inl (fun _ => 0)))]) H := hP
  have hD : va_D A (w ++ [(b, .inl (D.1 102, n, .inl (fun _ => 0)))]) := hD
  refine W.widen (k := 1) (n := 8) (Nat.le_refl _) (by omega) ?_
  refine lv_astore_n (lv' := [(3, .ref b), (0, .ref x0), (1, .int 0), (2, .int (nI n))]) hC.x hC.b dJ5_compress_3 rfl hl (by decide) rfl (fun ls hl => ?_)
  refine lv_aload_n hC.x hC.b dJ5_compress_4 rfl (lv_at hl 1 rfl) ?_
  refine lv_iload_n hC.x hC.b dJ5_compress_5 rfl (lv_at hl 2 rfl) ?_
  refine lv_aload_n hC.x hC.b dJ5_compress_6 rfl (lv_at hl 0 rfl) ?_
  refine lv_iconst (v := 0) hC.x hC.b dJ5_compress_7 (by decide) ?_
  refine lv_iload_n hC.x hC.b dJ5_compress_8 rfl (lv_at hl 3 rfl) ?_
  refine go_i (run_S (rest := []) hC (mJ5_compress_2 l hq hc hn (by omega) hcf) vJ5_J5_compress_2 hJ5_compress_2 ⟨rfl, rfl, Nat.le_of_ble_eq_true rfl, Nat.le_of_ble_eq_true rfl⟩ ⟨Nat.le_of_ble_eq_true rfl, Nat.le_of_ble_eq_true rfl⟩ hP hD hS hl.1 (Nat.le_of_ble_eq_true rfl) dJ5_compress_9 rfl) hS (fun r u H locs hr hP hD hS => ?_)
  subst hr
  refine lv_istore (lv' := [(4, .int (nI n)), (3, .ref b), (0, .ref x0), (1, .int 0), (2, .int (nI n))]) hC.x hC.b dJ5_compress_12 hl (by decide) rfl (fun ls hl => ?_)
  refine lv_iload hC.x hC.b dJ5_compress_14 (lv_at hl 0 rfl) ?_
  refine lv_iload_n hC.x hC.b dJ5_compress_16 rfl (lv_at hl 4 rfl) ?_
  refine lv_icmp_eq (tgt := 57) hC.x hC.b dJ5_compress_17 (by decide) (fun _ => ?_) (fun c => absurd rfl c)
  refine lv_aload_n hC.x hC.b dJ5_compress_57 rfl (lv_at hl 1 rfl) ?_
  rw [sB_of] at hP hD
  exact W.aret (v := .ref b) hC.x hC.b hC.r (Or.inr ⟨_, rfl⟩) (Or.inr ⟨_, rfl⟩) (fun t ht _ => ⟨⟨(), b, rfl, trivial, by rw [ht]; exact hP, hD⟩, hS.F ht⟩) hS.2.2 dJ5_compress_58 hC.lk
theorem hJ5_coderFromArrayLen : yJ5_coderFromArrayLen.cls ≠ "java/lang/invoke/MethodHandle" ∧ yJ5_coderFromArrayLen.cls ≠ "java/lang/invoke/VarHandle" ∧ (parseMethodDescriptor yJ5_coderFromArrayLen.desc).map (fun d => d.parameters.length) = some 2 := by decide +kernel
theorem mJ5_coderFromArrayLen (l : Launch) {x0 q : Nat} {bs : List Int32} (hq : w[q]? = some (x0, sB D bs)) :
    Met l yJ5_coderFromArrayLen (ws_ yJ5_coderFromArrayLen cJ5_coderFromArrayLen 2 (some .byte)) ({ frames := 0, cells := 0, slots := 0, locals := 0 } : Room) (va_Pc [.ref x0, .int (nI bs.length)] (PcG D gCl nwG Z Hb A w)) (va_Qi (fun r (_ : Unit) => r = 0) (BW D gCl A (fun _ => w)) A) 0 0 A := by
  refine Met.ofG (by decide) (Nat.le_of_ble_eq_true rfl) ?_
  intro p e s m below meth c ls hC _ hP hD hS hl
  have hC : CX RJ5 cJ5_coderFromArrayLen 2 (some .byte) D gCl nwG Z Hb A p s m _ meth c := hC
  have hl : lv_has ls 2 [(0, .ref x0), (1, .int (nI bs.length))] := hl
  refine lv_iload_n hC.x hC.b dJ5_coderFromArrayLen_0 rfl (lv_at hl 1 rfl) ?_
  refine lv_aload_n hC.x hC.b dJ5_coderFromArrayLen_1 rfl (lv_at hl 0 rfl) ?_
  refine va_alen hC.x hC.b hC.K.1 hP q 2 hq rfl rfl dJ5_coderFromArrayLen_2 ?_
  refine lv_isub hC.x hC.b dJ5_coderFromArrayLen_3 ?_
  refine lv_bipush (v := 31) hC.x hC.b dJ5_coderFromArrayLen_4 (by decide) ?_
  have e : nI bs.length - nI bs.length = 0 := Int32.sub_self _
  have e : nI bs.length - Int32.ofNat bs.length = 0 := e
  refine lv_iushr (v := 0) hC.x hC.b dJ5_coderFromArrayLen_6 (by rw [e]; decide) ?_
  refine lv_i2b (v := 0) hC.x hC.b dJ5_coderFromArrayLen_7 (by decide) ?_
  exact rt_n (u := ()) hC rfl rfl hP hD hS dJ5_coderFromArrayLen_8
theorem vJ3_J5_compress : GoodIn lw_all (va_wsS RJ3 177 yJ5_compress (ws_ yJ5_compress cJ5_compress 6 (some (.array .byte)))) := lw_S q552 q553 q130 q554
theorem vJ3_J5_coderFromArrayLen : GoodIn lw_all (va_wsS RJ3 47 yJ5_coderFromArrayLen (ws_ yJ5_coderFromArrayLen cJ5_coderFromArrayLen 2 (some .byte))) := lw_S q590 q591 q130 q592
theorem hJ3_rangeCheck : yJ3_rangeCheck.cls ≠ "java/lang/invoke/MethodHandle" ∧ yJ3_rangeCheck.cls ≠ "java/lang/invoke/VarHandle" ∧ (parseMethodDescriptor yJ3_rangeCheck.desc).map (fun d => d.parameters.length) = some 3 := by decide +kernel
theorem vJ3_J3_checkBoundsOffCount : GoodIn lw_all (va_wsS RJ3 34 yJ3_checkBoundsOffCount (ws_ yJ3_checkBoundsOffCount cJ3_checkBoundsOffCount 3 (some .int))) := lw_S q537 q538 q128 q539
theorem vJ3_J3_rangeCheck : GoodIn lw_all (va_wsS RJ3 30 yJ3_rangeCheck (ws_ yJ3_rangeCheck cJ3_rangeCheck 3 (some (.object "java/lang/Void")))) := lw_S q534 q535 q128 q536
theorem mJ3_rangeCheck (l : Launch) {x0 nC n q : Nat} {cf : Nat → Int32} {adK adV : Nat → Nat} (hZ : ∀ U, Z U → zS adK adV A Hb U) (hc : w[q]? = some (x0, .inl (D.1 103, nC, .inl cf))) (hn : n ≤ nC) (hN : nC ≤ 8) :
    Met l yJ3_rangeCheck (ws_ yJ3_rangeCheck cJ3_rangeCheck 3 (some (.object "java/lang/Void"))) ({ frames := 2, cells := 0, slots := 0, locals := 60 } : Room) (va_Pc [.ref x0, .int 0, .int (nI n)] (PcG D gCl nwG Z Hb A w)) (va_Qo (fun r (_ : Unit) => r = none) (BW D gCl A (fun _ => w)) A) 0 0 A := by
  refine Met.ofG (by decide) (Nat.le_of_ble_eq_true rfl) ?_
  intro p e s m below meth c ls hC _ hP hD hS hl
  have hC : CX RJ3 cJ3_rangeCheck 3 (some (.object "java/lang/Void")) D gCl nwG Z Hb A p s m _ meth c := hC
  have hl : lv_has ls 3 [(0, .ref x0), (1, .int 0), (2, .int (nI n))] := hl
  refine lv_iload_n hC.x hC.b dJ3_rangeCheck_0 rfl (lv_at hl 1 rfl) ?_
  refine lv_iload_n hC.x hC.b dJ3_rangeCheck_1 rfl (lv_at hl 2 rfl) ?_
  refine lv_aload_n hC.x hC.b dJ3_rangeCheck_2 rfl (lv_at hl 0 rfl) ?_
  refine va_alen hC.x hC.b hC.K.1 hP q 3 hc rfl rfl dJ3_rangeCheck_3 ?_
  have hw : wJ3_checkBoundsOffCount (fun _ => True) 0 (nI n) (nI nC) := by
    unfold wJ3_checkBoundsOffCount wJ4_checkFromIndexSize
    have h := s_rc nC (by omega) n (by omega) hn
    exact ⟨fun c => absurd c h.1, fun _ => ⟨fun _ => trivial, fun c => absurd h.2 c⟩⟩
  refine go_i (run_S (rest := []) hC (mJ3_checkBoundsOffCount l hZ hw) vJ3_J3_checkBoundsOffCount hJ3_checkBoundsOffCount ⟨rfl, rfl, Nat.le_of_ble_eq_true rfl, Nat.le_of_ble_eq_true rfl⟩ ⟨Nat.le_refl _, Nat.le_refl _⟩ hP hD hS hl.1 (Nat.le_of_ble_eq_true rfl) dJ3_rangeCheck_4 rfl) hS (fun r u H locs _ hP hD hS => ?_)
  refine lv_pop hC.x hC.b dJ3_rangeCheck_7 rfl ?_
  refine lv_null hC.x hC.b dJ3_rangeCheck_8 ?_
  exact rt_o (u := ()) (r := none) hC (Or.inl ⟨_, rfl⟩) rfl hP hD hS dJ3_rangeCheck_9
theorem hJ3_init_2 : yJ3_init_2.cls ≠ "java/lang/invoke/MethodHandle" ∧ yJ3_init_2.cls ≠ "java/lang/invoke/VarHandle" ∧ (parseMethodDescriptor yJ3_init_2.desc).map (fun d => d.parameters.length) = some 4 := by decide +kernel
set_option maxHeartbeats 4000000 in
theorem mJ3_init_2 (l : Launch) {a0 x0 nC n q : Nat} {cf : Nat → Int32} {adK adV : Nat → Nat} (hZ : ∀ U, Z U → zS adK adV A Hb U) (hq : q < w.length) (hc : w[q]? = some (x0, .inl (D.1 103, nC, .inl cf))) (h1 : 1 ≤ n) (hn : n ≤ nC) (hN : nC ≤ 8) (hcf : ∀ j, j < n → ∃ k : Nat, k < 128 ∧ cf j = nI k) :
    Met l yJ3_init_2 (ws_ yJ3_init_2 cJ3_init_2 6 none) ({ frames := 2, cells := 1, slots := 8, locals := 120 } : Room) (va_Pc [.ref a0, .ref x0, .int 0, .int (nI n), .null] (PcG D gCl nwG Z Hb A (w ++ [(a0, .inr (13, [.null, .int 0, .int 0, .int 0]))]))) (va_Qv (fun (_ : Nat) => True) (BW D gCl A (fun u => w ++ [(a0, sO u (bsOf cf n) false), (u, sB D (bsOf cf n))])) A) 1 8 A := by
  refine Met.ofG (by decide) (Nat.le_of_ble_eq_true rfl) ?_
  intro p e s m below meth c ls hC hin hP hD hS hl
  have hC : CX RJ3 cJ3_init_2 6 none D gCl nwG Z Hb A p s m _ meth c := hC
  have hl : lv_has ls 6 [(0, .ref a0), (1, .ref x0), (2, .int 0), (3, .int (nI n)), (4, .null)] := hl
  refine lv_aload_n hC.x hC.b dJ3_init_2_0 rfl (lv_at hl 0 rfl) ?_
  refine W.objInit hC.x hC.b hC.ow (hC.ts _ q548) (hC.ts _ q150) (hC.ts _ q151) rfl (by rw [hC.ml]; exact hl.1) rfl dJ3_init_2_1 (Nat.le_of_ble_eq_true rfl) (Nat.le_of_ble_eq_true rfl) ?_
  refine W.eq (g2 := F0 m 4 ls []) rfl ?_
  refine lv_iload_n hC.x hC.b dJ3_init_2_4 rfl (lv_at hl 3 rfl) ?_
  refine lv_if_ne (tgt := 27) hC.x hC.b dJ3_init_2_5 (by decide) (fun _ => ?_) (fun c => absurd c (by rw [show (0 : Int32) = nI 0 from rfl, nI_eq (by omega) (by omega)]; omega))
  refine s_cs hC hZ hS dJ3_init_2_27 ?_
  refine lv_if_eq (tgt := 58) hC.x hC.b dJ3_init_2_30 (by decide) (fun c => absurd c (by decide)) (fun _ => ?_)
  refine lv_aload_n hC.x hC.b dJ3_init_2_33 rfl (lv_at hl 1 rfl) ?_
  refine lv_iload_n hC.x hC.b dJ3_init_2_34 rfl (lv_at hl 2 rfl) ?_
  refine lv_iload_n hC.x hC.b dJ3_init_2_35 rfl (lv_at hl 3 rfl) ?_
  refine va_callr (B := fun (_ : Unit) a t => va_P D gCl ((w ++ [(a0, .inr (13, [.null, .int 0, .int 0, .int 0]))]) ++ [(a, sB D (bsOf cf n))]) t.heap ∧ va_D A ((w ++ [(a0, .inr (13, [.null, .int 0, .int 0, .int 0]))]) ++ [(a, sB D (bsOf cf n))])) (post := fun _ => True) (run_S (rest := []) (As := [.ref x0, .int 0, .int (nI n)]) hC (mJ5_compress (w := w ++ [(a0, .inr (13, [.null, .int 0, .int 0, .int 0]))]) (x0 := x0) (nC := nC) (n := n) (q := q) (cf := cf) l (by simp; omega) (by rw [List.getElem?_append_left hq]; exact hc) hn hN hcf) vJ3_J5_compress hJ5_compress ⟨rfl, rfl, Nat.le_of_ble_eq_true rfl, Nat.le_of_ble_eq_true rfl⟩ ⟨Nat.le_of_ble_eq_true rfl, Nat.le_of_ble_eq_true rfl⟩ hP hD hS hl.1 (Nat.le_of_ble_eq_true rfl) dJ3_init_2_36 rfl) hS (fun _ _ h => h) (fun _ h => h) (fun u ra t H locs ht _ _ hB _ _ hS => ?_)
  have hP : va_P D gCl ((w ++ [(a0, .inr (13, [.null, .int 0, .int 0, .int 0]))]) ++ [(ra, sB D (bsOf cf n))]) H := by rw [← ht]; exact hB.1
  have hD : va_D A ((w ++ [(a0, .inr (13, [.null, .int 0, .int 0, .int 0]))]) ++ [(ra, sB D (bsOf cf n))]) := hB.2
  rw [List.append_assoc] at hP hD
  have hP : va_P D gCl (w ++ [(a0, .inr (13, [.null, .int 0, .int 0, .int 0])), (ra, sB D (bsOf cf n))]) H := hP
  have hD : va_D A (w ++ [(a0, .inr (13, [.null, .int 0, .int 0, .int 0])), (ra, sB D (bsOf cf n))]) := hD
  refine lv_astore (lv' := [(5, .ref ra), (0, .ref a0), (1, .ref x0), (2, .int 0), (3, .int (nI n)), (4, .null)]) hC.x hC.b dJ3_init_2_39 hl (by decide) rfl (fun ls hl => ?_)
  refine lv_aload_n hC.x hC.b dJ3_init_2_41 rfl (lv_at hl 1 rfl) ?_
  refine lv_aload hC.x hC.b dJ3_init_2_42 (lv_at hl 0 rfl) ?_
  refine lv_iload_n hC.x hC.b dJ3_init_2_44 rfl (lv_at hl 4 rfl) ?_
  have hM := mJ5_coderFromArrayLen (D := D) (Z := Z) (Hb := Hb) (A := A) (w := w ++ [(a0, .inr (13, [.null, .int 0, .int 0, .int 0])), (ra, sB D (bsOf cf n))]) l (q := w.length + 1) (x0 := ra) (bs := bsOf cf n) (ap_at w _ 1)
  rw [bsOf_len] at hM
  refine go_i (run_S (rest := [.ref a0]) hC hM vJ3_J5_coderFromArrayLen hJ5_coderFromArrayLen ⟨rfl, rfl, Nat.le_of_ble_eq_true rfl, Nat.le_of_ble_eq_true rfl⟩ ⟨Nat.le_of_ble_eq_true rfl, Nat.le_of_ble_eq_true rfl⟩ hP hD hS hl.1 (Nat.le_of_ble_eq_true rfl) dJ3_init_2_45 rfl) hS (fun r u H locs hr hP hD hS => ?_)
  subst hr
  refine va_putF (D := D) (ci := 13) (fs := [.null, .int 0, .int 0, .int 0]) (v := .int 0) (ty := .byte) (C := RJ3) (T := TJ3) (N := 4) hC.x hC.b hC.ts in_J3 tyJ3 tyJ3_ok nmJ3 hC.ow hC.K.1 hP hD hS (w.length + 0) (ap_at w _ 0) gCl_J3 1 (by decide) (hC.ts _ q595) (fun _ h9 => h9) rfl hin rfl (by decide +kernel) rfl rfl (Nat.le_of_ble_eq_true rfl) dJ3_init_2_48 (fun H locs hP hD hS => ?_)
  rw [ap_set] at hP hD
  have hP : va_P D gCl (w ++ [(a0, .inr (13, [.null, .int 0, .int 0, .int 0])), (ra, sB D (bsOf cf n))]) H := hP
  have hD : va_D A (w ++ [(a0, .inr (13, [.null, .int 0, .int 0, .int 0])), (ra, sB D (bsOf cf n))]) := hD
  refine lv_aload_n hC.x hC.b dJ3_init_2_51 rfl (lv_at hl 1 rfl) ?_
  refine lv_aload hC.x hC.b dJ3_init_2_52 (lv_at hl 0 rfl) ?_
  refine va_putF (D := D) (ci := 13) (fs := [.null, .int 0, .int 0, .int 0]) (v := .ref ra) (ty := .array .byte) (C := RJ3) (T := TJ3) (N := 4) hC.x hC.b hC.ts in_J3 tyJ3 tyJ3_ok nmJ3 hC.ow hC.K.1 hP hD hS (w.length + 0) (ap_at w _ 0) gCl_J3 0 (by decide) (hC.ts _ q594) (fun _ h9 => h9) rfl hin rfl (by decide +kernel) rfl rfl (Nat.le_of_ble_eq_true rfl) dJ3_init_2_54 (fun H locs hP hD hS => ?_)
  rw [ap_set] at hP hD
  have hP : va_P D gCl (w ++ [(a0, sO ra (bsOf cf n) false), (ra, sB D (bsOf cf n))]) H := hP
  have hD : va_D A (w ++ [(a0, sO ra (bsOf cf n) false), (ra, sB D (bsOf cf n))]) := hD
  exact rt_v (u := ra) hC trivial hP hD hS dJ3_init_2_57
theorem hJ3_init : yJ3_init.cls ≠ "java/lang/invoke/MethodHandle" ∧ yJ3_init.cls ≠ "java/lang/invoke/VarHandle" ∧ (parseMethodDescriptor yJ3_init.desc).map (fun d => d.parameters.length) = some 3 := by decide +kernel
/-- new String(chars, 0, n) -/
theorem mJ3_init (l : Launch) {a0 x0 nC n q : Nat} {cf : Nat → Int32} {adK adV : Nat → Nat} (hZ : ∀ U, Z U → zS adK adV A Hb U) (hq : q < w.length) (hc : w[q]? = some (x0, .inl (D.1 103, nC, .inl cf))) (h1 : 1 ≤ n) (hn : n ≤ nC) (hN : nC ≤ 8) (hcf : ∀ j, j < n → ∃ k : Nat, k < 128 ∧ cf j = nI k) :
    Met l yJ3_init (ws_ yJ3_init cJ3_init 4 none) ({ frames := 3, cells := 1, slots := 8, locals := 180 } : Room) (va_Pc [.ref a0, .ref x0, .int 0, .int (nI n)] (PcG D gCl nwG Z Hb A (w ++ [(a0, .inr (13, [.null, .int 0, .int 0, .int 0]))]))) (va_Qv (fun (_ : Nat) => True) (BW D gCl A (fun u => w ++ [(a0, sO u (bsOf cf n) false), (u, sB D (bsOf cf n))])) A) 1 8 A := by
  refine Met.ofG (by decide) (Nat.le_of_ble_eq_true rfl) ?_
  intro p e s m below meth c ls hC hin hP hD hS hl
  have hC : CX RJ3 cJ3_init 4 none D gCl nwG Z Hb A p s m _ meth c := hC
  have hl : lv_has ls 4 [(0, .ref a0), (1, .ref x0), (2, .int 0), (3, .int (nI n))] := hl
  refine lv_aload_n hC.x hC.b dJ3_init_0 rfl (lv_at hl 0 rfl) ?_
  refine lv_aload_n hC.x hC.b dJ3_init_1 rfl (lv_at hl 1 rfl) ?_
  refine lv_iload_n hC.x hC.b dJ3_init_2 rfl (lv_at hl 2 rfl) ?_
  refine lv_iload_n hC.x hC.b dJ3_init_3 rfl (lv_at hl 3 rfl) ?_
  refine lv_aload_n hC.x hC.b dJ3_init_4 rfl (lv_at hl 1 rfl) ?_
  refine lv_iload_n hC.x hC.b dJ3_init_5 rfl (lv_at hl 2 rfl) ?_
  refine lv_iload_n hC.x hC.b dJ3_init_6 rfl (lv_at hl 3 rfl) ?_
  refine go_o (run_S (rest := [.int (nI n), .int 0, .ref x0, .ref a0]) hC (mJ3_rangeCheck l hZ (q := q) (by rw [List.getElem?_append_left hq]; exact hc) hn hN) vJ3_J3_rangeCheck hJ3_rangeCheck ⟨rfl, rfl, Nat.le_of_ble_eq_true rfl, Nat.le_of_ble_eq_true rfl⟩ ⟨Nat.le_of_ble_eq_true rfl, Nat.le_of_ble_eq_true rfl⟩ hP hD hS hl.1 (Nat.le_of_ble_eq_true rfl) dJ3_init_7 rfl) hS (fun r u H locs hr hP hD hS => ?_)
  subst hr
  refine go_v (run_I (rest := []) (As := [.ref x0, .int 0, .int (nI n), .null]) hC (mJ3_init_2 l hZ hq hc h1 hn hN hcf) q545 ⟨q547, q128, q546⟩ hJ3_init_2 rfl ⟨rfl, rfl, Nat.le_of_ble_eq_true rfl, Nat.le_of_ble_eq_true rfl⟩ ⟨Nat.le_of_ble_eq_true rfl, Nat.le_of_ble_eq_true rfl⟩ hP hD hS hl.1 (Nat.le_of_ble_eq_true rfl) dJ3_init_10 rfl) hS (fun u H locs _ hP hD hS => ?_)
  exact rt_v (u := u) hC trivial hP hD hS dJ3_init_13
theorem set_same {α : Type} {l : List α} {q : Nat} {x : α} (h : l[q]? = some x) : l.set q x = l := by
  apply List.ext_getElem?
  intro i
  by_cases e : q = i
  · subst e
    rw [h, List.getElem?_set]
    have := (List.getElem?_eq_some_iff.mp h).1
    simp [this]
  · rw [List.getElem?_set_ne e]
theorem hJ3_hashCode : yJ3_hashCode.cls = RJ3 ∧ yJ3_hashCode.cls ≠ "java/lang/invoke/MethodHandle" ∧ yJ3_hashCode.cls ≠ "java/lang/invoke/VarHandle" ∧ (parseMethodDescriptor yJ3_hashCode.desc).map (fun d => d.parameters.length) = some 0 := by decide +kernel
theorem vJ3_J6_hashCode : GoodIn lw_all (va_wsS RJ3 628 yJ6_hashCode (ws_ yJ6_hashCode cJ6_hashCode 1 (some .int))) := lw_S q631 q632 q131 q633
set_option maxHeartbeats 4000000 in
theorem mJ3_hashCode (l : Launch) {a q q' b : Nat} {bs : List Int32} {hd : Bool} {adK adV : Nat → Nat} (hZ : ∀ U, Z U → zS adK adV A Hb U) (hq : w[q]? = some (a, sO b bs hd)) (hq' : w[q']? = some (b, sB D bs)) (hlen : bs.length < 1000) (hh : wJ6_hashCode (fun r => r = hB bs) bs) :
    Met l yJ3_hashCode (ws_ yJ3_hashCode cJ3_hashCode 2 (some .int)) ({ frames := 4, cells := 0, slots := 0, locals := 200 } : Room) (va_Pc [.ref a] (PcG D gCl nwG Z Hb A w)) (va_Qi (fun r (_ : Unit) => r = hB bs) (BW D gCl A (fun _ => w.set q (a, sO b bs true))) A) 0 0 A := by
  refine Met.ofG (by decide) (Nat.le_of_ble_eq_true rfl) ?_
  intro p e s m below meth c ls hC _ hP hD hS hl
  have hC : CX RJ3 cJ3_hashCode 2 (some .int) D gCl nwG Z Hb A p s m _ meth c := hC
  have hl : lv_has ls 2 [(0, .ref a)] := hl
  have hstr : PStr D w a bs := ⟨hlen, q, b, _, _, hq, q', hq'⟩
  refine lv_aload_n hC.x hC.b dJ3_hashCode_0 rfl (lv_at hl 0 rfl) ?_
  refine va_get (D := D) (ci := 13) (v := .int (hv bs hd)) (C := RJ3) (T := TJ3) (N := 4) hC.x hC.b hC.ts in_J3 hC.ow hC.K.1 hP q hq gCl_J3 2 (by decide) (hC.ts _ q596) (fun _ h9 => h9) rfl dJ3_hashCode_1 ?_
  refine lv_istore_n (lv' := [(1, .int (hv bs hd)), (0, .ref a)]) hC.x hC.b dJ3_hashCode_4 rfl hl (by decide) rfl (fun ls hl => ?_)
  refine lv_iload_n hC.x hC.b dJ3_hashCode_5 rfl (lv_at hl 0 rfl) ?_
  refine lv_if_ne (tgt := 58) hC.x hC.b dJ3_hashCode_6 (by decide) (fun c0 => ?_) (fun c0 => ?_)
  · have e : hd = true := by
      cases hd with
      | true => rfl
      | false => exact absurd rfl c0
    subst e
    refine lv_iload_n hC.x hC.b dJ3_hashCode_58 rfl (lv_at hl 0 rfl) ?_
    have hP : va_P D gCl (w.set q (a, sO b bs true)) s.heap := by rw [set_same hq]; exact hP
    have hD : va_D A (w.set q (a, sO b bs true)) := by rw [set_same hq]; exact hD
    exact rt_i (u := ()) hC rfl hP hD hS dJ3_hashCode_59
  · refine lv_aload_n hC.x hC.b dJ3_hashCode_9 rfl (lv_at hl 1 rfl) ?_
    refine va_get (D := D) (ci := 13) (v := .int (zv bs hd)) (C := RJ3) (T := TJ3) (N := 4) hC.x hC.b hC.ts in_J3 hC.ow hC.K.1 hP q hq gCl_J3 3 (by decide) (hC.ts _ q597) (fun _ h9 => h9) rfl dJ3_hashCode_10 ?_
    refine lv_if_ne (tgt := 58) hC.x hC.b dJ3_hashCode_13 (by decide) (fun c1 => ?_) (fun c1 => ?_)
    · have e : hd = true := by
        cases hd with
        | true => rfl
        | false => exact absurd rfl c1
      subst e
      refine lv_iload_n hC.x hC.b dJ3_hashCode_58 rfl (lv_at hl 0 rfl) ?_
      have hP : va_P D gCl (w.set q (a, sO b bs true)) s.heap := by rw [set_same hq]; exact hP
      have hD : va_D A (w.set q (a, sO b bs true)) := by rw [set_same hq]; exact hD
      exact rt_i (u := ()) hC rfl hP hD hS dJ3_hashCode_59
    · have e : hd = false := by
        cases hd with
        | false => rfl
        | true =>
          exfalso
          have c0 : hB bs = 0 := c0
          have c1 : (if hB bs = 0 then (1 : Int32) else 0) = 0 := c1
          rw [if_pos c0] at c1
          exact absurd c1 (by decide)
      subst e
      refine lv_aload_n hC.x hC.b dJ3_hashCode_16 rfl (lv_at hl 1 rfl) ?_
      refine go_i (run_Vc (rest := []) hC (mJ3_isLatin1 l (post := fun r => r = 1) hZ (Or.inl hstr) rfl) vJ3_J3_isLatin1 hJ3_isLatin1 (s_cell hC hP hS (Or.inl hstr)) ⟨rfl, rfl, Nat.le_of_ble_eq_true rfl, Nat.le_of_ble_eq_true rfl⟩ ⟨Nat.le_refl _, Nat.le_refl _⟩ hP hD hS hl.1 (Nat.le_of_ble_eq_true rfl) dJ3_hashCode_17 rfl) hS (fun r u H locs hr hP hD hS => ?_)
      subst hr
      refine lv_if_eq (tgt := 33) hC.x hC.b dJ3_hashCode_20 (by decide) (fun c => absurd c (by decide)) (fun _ => ?_)
      refine lv_aload_n hC.x hC.b dJ3_hashCode_23 rfl (lv_at hl 1 rfl) ?_
      refine va_get (D := D) (ci := 13) (v := .ref b) (C := RJ3) (T := TJ3) (N := 4) hC.x hC.b hC.ts in_J3 hC.ow hC.K.1 hP q hq gCl_J3 0 (by decide) (hC.ts _ q594) (fun _ h9 => h9) rfl dJ3_hashCode_24 ?_
      refine go_i (run_S (rest := []) hC (mJ6_hashCode l hZ ⟨hlen, q', hq'⟩ hh) vJ3_J6_hashCode hJ6_hashCode ⟨rfl, rfl, Nat.le_of_ble_eq_true rfl, Nat.le_of_ble_eq_true rfl⟩ ⟨Nat.le_refl _, Nat.le_refl _⟩ hP hD hS hl.1 (Nat.le_of_ble_eq_true rfl) dJ3_hashCode_27 rfl) hS (fun r u H locs hr hP hD hS => ?_)
      refine lv_goto (tgt := 40) hC.x hC.b dJ3_hashCode_30 (by decide) ?_
      refine lv_istore_n (lv' := [(1, .int r), (0, .ref a)]) hC.x hC.b dJ3_hashCode_40 rfl hl (by decide) rfl (fun ls hl => ?_)
      refine lv_iload_n hC.x hC.b dJ3_hashCode_41 rfl (lv_at hl 0 rfl) ?_
      refine lv_if_ne (tgt := 53) hC.x hC.b dJ3_hashCode_42 (by decide) (fun c2 => ?_) (fun c2 => ?_)
      · refine lv_aload_n hC.x hC.b dJ3_hashCode_53 rfl (lv_at hl 1 rfl) ?_
        refine lv_iload_n hC.x hC.b dJ3_hashCode_54 rfl (lv_at hl 0 rfl) ?_
        refine va_put (D := D) (ci := 13) (fs := [.ref b, .int 0, .int (hv bs false), .int (zv bs false)]) (v := .int r) (ty := .int) (C := RJ3) (T := TJ3) (N := 4) hC.x hC.b hC.ts in_J3 tyJ3 tyJ3_ok nmJ3 hC.ow hC.K.1 hP hD hS q hq gCl_J3 2 (by decide) (hC.ts _ q596) (fun _ h9 => h9) rfl (by decide +kernel) rfl rfl (Nat.le_of_ble_eq_true rfl) dJ3_hashCode_55 (fun H locs hP hD hS => ?_)
        have e : w.set q (a, .inr (13, [.ref b, .int 0, .int r, .int (zv bs false)])) = w.set q (a, sO b bs true) := by
          have e1 : hv bs true = r := hr.symm
          have e2 : zv bs true = 0 := by
            show (if hB bs = 0 then (1 : Int32) else 0) = 0
            rw [if_neg (by rw [← hr]; exact c2)]
          show w.set q (a, .inr (13, [.ref b, .int 0, .int r, .int 0])) = w.set q (a, .inr (13, [.ref b, .int 0, .int (hv bs true), .int (zv bs true)]))
          rw [e1, e2]
        have hP : va_P D gCl (w.set q (a, .inr (13, [.ref b, .int 0, .int r, .int (zv bs false)]))) H := hP
        have hD : va_D A (w.set q (a, .inr (13, [.ref b, .int 0, .int r, .int (zv bs false)]))) := hD
        rw [e] at hP hD
        refine lv_iload_n hC.x hC.b dJ3_hashCode_58 rfl (lv_at hl 0 rfl) ?_
        exact rt_i (u := ()) hC hr hP hD hS dJ3_hashCode_59
      · refine lv_aload_n hC.x hC.b dJ3_hashCode_45 rfl (lv_at hl 1 rfl) ?_
        refine lv_iconst (v := 1) hC.x hC.b dJ3_hashCode_46 (by decide) ?_
        refine va_put (D := D) (ci := 13) (fs := [.ref b, .int 0, .int (hv bs false), .int (zv bs false)]) (v := .int 1) (ty := .boolean) (C := RJ3) (T := TJ3) (N := 4) hC.x hC.b hC.ts in_J3 tyJ3 tyJ3_ok nmJ3 hC.ow hC.K.1 hP hD hS q hq gCl_J3 3 (by decide) (hC.ts _ q597) (fun _ h9 => h9) rfl (by decide +kernel) rfl rfl (Nat.le_of_ble_eq_true rfl) dJ3_hashCode_47 (fun H locs hP hD hS => ?_)
        have e : w.set q (a, .inr (13, [.ref b, .int 0, .int (hv bs false), .int 1])) = w.set q (a, sO b bs true) := by
          have e0 : hB bs = 0 := by rw [← hr]; exact c2
          have e1 : hv bs true = 0 := e0
          have e2 : zv bs true = 1 := by
            show (if hB bs = 0 then (1 : Int32) else 0) = 1
            rw [if_pos e0]
          show w.set q (a, .inr (13, [.ref b, .int 0, .int 0, .int 1])) = w.set q (a, .inr (13, [.ref b, .int 0, .int (hv bs true), .int (zv bs true)]))
          rw [e1, e2]
        have hP : va_P D gCl (w.set q (a, .inr (13, [.ref b, .int 0, .int (hv bs false), .int 1]))) H := hP
        have hD : va_D A (w.set q (a, .inr (13, [.ref b, .int 0, .int (hv bs false), .int 1]))) := hD
        rw [e] at hP hD
        refine lv_goto (tgt := 58) hC.x hC.b dJ3_hashCode_50 (by decide) ?_
        refine lv_iload_n hC.x hC.b dJ3_hashCode_58 rfl (lv_at hl 0 rfl) ?_
        exact rt_i (u := ()) hC hr hP hD hS dJ3_hashCode_59
end S2
