set_option maxRecDepth 100000
section CWgv
variable {p : Program} {l : Launch} {e : Env} {s : State} {m : MethodId} {args : Array Value} {below : List Frame} {meth : Method} {c : Code} {D : va_G} {Z : State → Prop} {Hb : Heap} {A : Nat → Prop} {ad : Nat → Nat} {sc : Option Nat × Option Nat × (Nat → Value)} {tw : Option TD} {τ : TD} {w0 : va_W} {b0 : Nat}

theorem lw_U {own : String} {idx : Nat} {C owner : String} {x y : MethodName} {b : ByteArray} {L : Nat} {r : Option FieldType} (h1 : Cond.methodLink own idx x ∈ lw_all) (h2 : Cond.sameMethod x.cls owner x.name x.desc ∈ lw_all) (h3 : Cond.selects C x y ∈ lw_all) (h4 : Cond.instanceMethod y ∈ lw_all) (h5 : Cond.initialized y.cls ∈ lw_all) (h6 : Cond.code y b L r ∈ lw_all) : GoodIn lw_all (va_wsU own idx C owner x y (ws_ y b L r)) := by
  refine lw_app ?_ (lw_meth h6)
  intro w hw
  simp only [List.mem_cons, List.not_mem_nil, or_false] at hw
  rcases hw with e | e | e | e | e
  · rw [e]; exact h1
  · rw [e]; exact h2
  · rw [e]; exact h3
  · rw [e]; exact h4
  · rw [e]; exact h5
theorem lw_O {own : String} {idx : Nat} {C owner : String} {x y : MethodName} {b : ByteArray} {L : Nat} {r : Option FieldType} (h1 : Cond.methodLink own idx x ∈ lw_all) (h2 : Cond.sameMethod x.cls owner x.name x.desc ∈ lw_all) (h0 : Cond.instanceMethod ⟨owner, x.name, x.desc⟩ ∈ lw_all) (h3 : Cond.selects C x y ∈ lw_all) (h4 : Cond.instanceMethod y ∈ lw_all) (h5 : Cond.initialized y.cls ∈ lw_all) (h6 : Cond.code y b L r ∈ lw_all) : GoodIn lw_all (va_wsO own idx C owner x y (ws_ y b L r)) := by
  refine lw_app ?_ (lw_meth h6)
  intro w hw
  simp only [List.mem_cons, List.not_mem_nil, or_false] at hw
  rcases hw with e | e | e | e | e | e
  · rw [e]; exact h1
  · rw [e]; exact h2
  · rw [e]; exact h0
  · rw [e]; exact h3
  · rw [e]; exact h4
  · rw [e]; exact h5
theorem lw_SU {own : String} {idx : Nat} {y : MethodName} {b : ByteArray} {L : Nat} {r : Option FieldType} (h1 : Cond.methodLink own idx y ∈ lw_all) (h2 : Cond.sameMethod y.cls y.cls y.name y.desc ∈ lw_all) (h3 : Cond.superclass own y.cls ∈ lw_all) (h4 : Cond.instanceMethod y ∈ lw_all) (h5 : Cond.initialized y.cls ∈ lw_all) (h6 : Cond.code y b L r ∈ lw_all) : GoodIn lw_all (va_wsSU own idx y (ws_ y b L r)) := by
  refine lw_app ?_ (lw_meth h6)
  intro w hw
  simp only [List.mem_cons, List.not_mem_nil, or_false] at hw
  rcases hw with e | e | e | e | e
  · rw [e]; exact h1
  · rw [e]; exact h2
  · rw [e]; exact h3
  · rw [e]; exact h4
  · rw [e]; exact h5
section GOV
variable {own C : String} {cc bytes : ByteArray} {nL maxL index mc ms pc : Nat} {ret0 ret : Option FieldType} {cl : List vw_C} {nw : List Cond} {y : MethodName} {rm : Room} {b : Addr} {As rest st0 : List Value} {w : va_W} {Qc : Array Value → State → Outcome → State → Prop} {ls : Array Slot} {R : Room} {H : Heap} {locs : List Loc} {cells slots : Nat}
theorem run_O {x : MethodName} {owner : String} {b00 : ByteArray} {m00 : Nat} {r00 : Option FieldType} (hC : CX own cc nL ret0 D cl nw Z Hb A p s m args meth c) (hM : Met l y (ws_ y bytes maxL ret) rm (va_Pc (.ref b :: As) (PcG D cl nw Z Hb A w)) Qc mc ms A) (hq : GoodIn lw_all (va_wsO own index C owner x y (ws_ y bytes maxL ret))) (h0 : Cond.code ⟨owner, x.name, x.desc⟩ b00 m00 r00 ∈ lw_all)
    (hd : owner ≠ "java/lang/invoke/MethodHandle" ∧ owner ≠ "java/lang/invoke/VarHandle" ∧ (parseMethodDescriptor x.desc).map (fun d => d.parameters.length) = some As.length)
    (q0 ci : Nat) {qc : vw_C} {fs : List Value} (hc : cl[ci]? = some qc) (he : w[q0]? = some (b, .inr (ci, fs))) (hcn : qc.1 = C)
    (hrm : rm.cells = mc ∧ rm.slots = ms ∧ rm.frames + 1 ≤ R.frames ∧ 8 + (maxL + 11) + rm.locals ≤ R.locals) (hf : cells + mc ≤ R.cells ∧ slots + ms ≤ R.slots)
    (hP : va_P D cl w H) (hD : va_D A w) (hS : va_S A s.heap H locs) (hl : ls.size = nL) (hst : (rest.map fun v => v.category).sum ≤ 8) (hdg : decode cc pc = .ok (.invokevirtual index, 3)) (hstk : st0 = As.reverse ++ .ref b :: rest) :
    va_Run p l e R s m args below meth c H locs cells slots mc ms (F0 m pc ls st0) rest (Qc (Value.ref b :: As).toArray) A := by
  refine va_runU (x := x) (owner := owner) (C := C) ⟨hC.x, hC.b, hC.ml, hC.ow, hC.ts⟩ hM (va_cwO As.length hC.ts hq rfl hrm.1 hrm.2.1 h0 hd hrm.2.2) ⟨pcG_blind, ?_, ?_⟩ rfl rfl hl hstk (lv_room hst) hdg hf
  · rw [← hcn]
    exact va_recv hC.K.1 hP hc he
  · intro U hU hW
    exact ⟨rfl, by rw [hU]; exact hP, hD, hC.K.moved hW, fun q hq => hC.aA q (Nat.le_trans hS.1 (by rw [← hU]; exact hq)), by rw [hU]; exact hC.ag.on hC.aA hS⟩
end GOV
theorem wC_gx {S : CS} {i k : Nat} (hi : i < τ.2.2.2.1) (hk : τ.2.2.2.2 i = k) : (wC D ad sc (some τ) S)[112 + τ.2.2.1 + i]? = some (τ.1 (20 + i), .inr (8 + k, obG τ S i)) := by
  rw [← hk]
  exact wC_g hi
theorem v12_11_law : GoodIn lw_all (va_wsSU RX12 7 yX11_law (ws_ yX11_law cX11_law 1 (some .int))) := lw_SU q958 q2198 q820 q959 q136 q960
def w12_law (post : Int32 → Prop) : Prop := w11_law (fun r => post (r + 1))
theorem m12_law (l : Launch) {S : CS} {i : Nat} {post : Int32 → Prop} (hi : i < τ.2.2.2.1) (hk : τ.2.2.2.2 i = 1) (hw : w12_law post) : Met l yX12_law (ws_ yX12_law cX12_law 1 (some .int)) ({ frames := 1, cells := 0, slots := 0, locals := 20 } : Room) (va_Pc [.ref (τ.1 (20 + i))] (PcG D gCl nwG Z Hb A (wC D ad sc (some τ) S))) (va_Qi (fun r (_ : Unit) => post r) (BW D gCl A (fun _ => (wC D ad sc (some τ) S))) A) 0 0 A := by
  refine Met.ofG (by decide) (Nat.le_of_ble_eq_true rfl) ?_
  intro p e s m below meth c ls hC _ hP hD hS hl
  have hC : CX RX12 cX12_law 1 (some .int) D gCl nwG Z Hb A p s m _ meth c := hC
  have hl : lv_has ls 1 [(0, .ref (τ.1 (20 + i)))] := hl
  unfold w12_law at hw
  refine lv_aload_n hC.x hC.b dX12_law_0 rfl (lv_at hl 0 rfl) ?_
  refine go_i (run_SU (rest := []) hC (m11_law l hw) v12_11_law ⟨by decide +kernel, by show _ = some 0; decide +kernel⟩ (112 + τ.2.2.1 + i) 9 gCl_X12 (wC_gx hi hk) rfl ⟨rfl, rfl, Nat.le_of_ble_eq_true rfl, Nat.le_of_ble_eq_true rfl⟩ ⟨Nat.le_refl _, Nat.le_refl _⟩ hP hD hS hl.1 (Nat.le_of_ble_eq_true rfl) dX12_law_1 rfl) hS (fun r u H locs hw hP hD hS => ?_)
  refine lv_iconst (v := 1) hC.x hC.b dX12_law_4 (by decide) ?_
  refine lv_iadd hC.x hC.b dX12_law_5 ?_
  exact rt_i (u := ()) hC hw hP hD hS dX12_law_6
theorem v12_11_slips : GoodIn lw_all (va_wsSU RX12 11 yX11_slips (ws_ yX11_slips cX11_slips 3 (some .int))) := lw_SU q922 q2197 q820 q923 q136 q924
def w12_slips (post : Int32 → Prop) (x1 : Int32) (x2 : Int32) : Prop := w11_slips (fun r => post (-r)) x1 x2
theorem m12_slips (l : Launch) {S : CS} {i : Nat} {post : Int32 → Prop} {x1 : Int32} {x2 : Int32} (hi : i < τ.2.2.2.1) (hk : τ.2.2.2.2 i = 1) (hw : w12_slips post x1 x2) : Met l yX12_slips (ws_ yX12_slips cX12_slips 3 (some .int)) ({ frames := 1, cells := 0, slots := 0, locals := 22 } : Room) (va_Pc [.ref (τ.1 (20 + i)), .int x1, .int x2] (PcG D gCl nwG Z Hb A (wC D ad sc (some τ) S))) (va_Qi (fun r (_ : Unit) => post r) (BW D gCl A (fun _ => (wC D ad sc (some τ) S))) A) 0 0 A := by
  refine Met.ofG (by decide) (Nat.le_of_ble_eq_true rfl) ?_
  intro p e s m below meth c ls hC _ hP hD hS hl
  have hC : CX RX12 cX12_slips 3 (some .int) D gCl nwG Z Hb A p s m _ meth c := hC
  have hl : lv_has ls 3 [(0, .ref (τ.1 (20 + i))), (1, .int x1), (2, .int x2)] := hl
  unfold w12_slips at hw
  refine lv_aload_n hC.x hC.b dX12_slips_0 rfl (lv_at hl 0 rfl) ?_
  refine lv_iload_n hC.x hC.b dX12_slips_1 rfl (lv_at hl 1 rfl) ?_
  refine lv_iload_n hC.x hC.b dX12_slips_2 rfl (lv_at hl 2 rfl) ?_
  refine go_i (run_SU (rest := []) hC (m11_slips l hw) v12_11_slips ⟨by decide +kernel, by show _ = some 2; decide +kernel⟩ (112 + τ.2.2.1 + i) 9 gCl_X12 (wC_gx hi hk) rfl ⟨rfl, rfl, Nat.le_of_ble_eq_true rfl, Nat.le_of_ble_eq_true rfl⟩ ⟨Nat.le_refl _, Nat.le_refl _⟩ hP hD hS hl.1 (Nat.le_of_ble_eq_true rfl) dX12_slips_3 rfl) hS (fun r u H locs hw hP hD hS => ?_)
  refine lv_ineg hC.x hC.b dX12_slips_6 ?_
  exact rt_i (u := ()) hC hw hP hD hS dX12_slips_7
theorem v14_13_law : GoodIn lw_all (va_wsSU RX14 7 yX13_law (ws_ yX13_law cX13_law 1 (some .int))) := lw_SU q965 q2199 q848 q953 q138 q954
def w14_law (post : Int32 → Prop) : Prop := w13_law (fun r => post (r + 1))
theorem m14_law (l : Launch) {S : CS} {i : Nat} {post : Int32 → Prop} (hi : i < τ.2.2.2.1) (hk : τ.2.2.2.2 i = 3) (hw : w14_law post) : Met l yX14_law (ws_ yX14_law cX14_law 1 (some .int)) ({ frames := 1, cells := 0, slots := 0, locals := 20 } : Room) (va_Pc [.ref (τ.1 (20 + i))] (PcG D gCl nwG Z Hb A (wC D ad sc (some τ) S))) (va_Qi (fun r (_ : Unit) => post r) (BW D gCl A (fun _ => (wC D ad sc (some τ) S))) A) 0 0 A := by
  refine Met.ofG (by decide) (Nat.le_of_ble_eq_true rfl) ?_
  intro p e s m below meth c ls hC _ hP hD hS hl
  have hC : CX RX14 cX14_law 1 (some .int) D gCl nwG Z Hb A p s m _ meth c := hC
  have hl : lv_has ls 1 [(0, .ref (τ.1 (20 + i)))] := hl
  unfold w14_law at hw
  refine lv_aload_n hC.x hC.b dX14_law_0 rfl (lv_at hl 0 rfl) ?_
  refine go_i (run_SU (rest := []) hC (m13_law l hw) v14_13_law ⟨by decide +kernel, by show _ = some 0; decide +kernel⟩ (112 + τ.2.2.1 + i) 11 gCl_X14 (wC_gx hi hk) rfl ⟨rfl, rfl, Nat.le_of_ble_eq_true rfl, Nat.le_of_ble_eq_true rfl⟩ ⟨Nat.le_refl _, Nat.le_refl _⟩ hP hD hS hl.1 (Nat.le_of_ble_eq_true rfl) dX14_law_1 rfl) hS (fun r u H locs hw hP hD hS => ?_)
  refine lv_iconst (v := 1) hC.x hC.b dX14_law_4 (by decide) ?_
  refine lv_iadd hC.x hC.b dX14_law_5 ?_
  exact rt_i (u := ()) hC hw hP hD hS dX14_law_6
def wg_slips (post : Int32 → Prop) (tw : Option TD) (i : Nat) (x1 : Int32) (x2 : Int32) : Prop := tL tw i < 4 ∧ (tL tw i = 0 → w11_slips post x1 x2) ∧ (tL tw i = 1 → w12_slips post x1 x2) ∧ (tL tw i = 2 → w13_slips post x1 x2) ∧ (tL tw i = 3 → w14_slips post x1 x2)
theorem run_slips {S : CS} {i : Nat} {post : Int32 → Prop} {x1 : Int32} {x2 : Int32} {rest : List Value} {R : Room} {H : Heap} {locs : List Loc} {cells slots pc nL : Nat} {cc : ByteArray} {ret0 : Option FieldType} {ls : Array Slot} (hi : i < τ.2.2.2.1) (hC : CX RX4 cc nL ret0 D gCl nwG Z Hb A p s m args meth c) (hw : wg_slips post (some τ) i x1 x2) (hP : va_P D gCl (wC D ad sc (some τ) S) H) (hD : va_D A (wC D ad sc (some τ) S)) (hS : va_S A s.heap H locs) (hl : ls.size = nL) (hst : (rest.map fun v => v.category).sum ≤ 8) (hrm : 120 ≤ R.frames) (hrl : 6000 ≤ R.locals) (hdg : decode cc pc = .ok (.invokevirtual 64, 3)) (hc : cells ≤ R.cells := by exact Nat.le_refl _) (hs : slots ≤ R.slots := by exact Nat.le_refl _) :
    va_Run p l e R s m args below meth c H locs cells slots 0 0 (F0 m pc ls (.int x2 :: .int x1 :: .ref (τ.1 (20 + i)) :: rest)) rest (va_Qi (fun r (_ : Unit) => post r) (BW D gCl A (fun _ => (wC D ad sc (some τ) S))) A (Value.ref (τ.1 (20 + i)) :: [.int x1, .int x2]).toArray) A := by
  obtain ⟨hlt, h0, h1, h2, h3⟩ := hw
  generalize hk : τ.2.2.2.2 i = k at *
  have hk2 : tL (some τ) i = k := hk
  rw [hk2] at hlt h0 h1 h2 h3
  match k, hlt, hk, h0, h1, h2, h3 with
  | 0, _, hk, h0, h1, h2, h3 => exact run_A (x := (⟨"SeanceStreet$Ghost", "slips", "(II)I"⟩ : MethodName)) (owner := "SeanceStreet$Ghost") (As := [.int x1, .int x2]) (C := RX11) hC (m11_slips l (h0 rfl)) (lw_U q913 q915 q925 q923 q136 q924) (hC.K.use 7 rfl) ⟨by decide, by decide, by show _ = some 2; decide +kernel⟩ (112 + τ.2.2.1 + i) 8 gCl_X11 (wC_gx hi hk) rfl ⟨rfl, rfl, Nat.le_trans (Nat.le_of_ble_eq_true rfl) hrm, Nat.le_trans (Nat.le_of_ble_eq_true rfl) hrl⟩ ⟨hc, hs⟩ hP hD hS hl hst hdg rfl
  | 1, _, hk, h0, h1, h2, h3 => exact run_A (x := (⟨"SeanceStreet$Ghost", "slips", "(II)I"⟩ : MethodName)) (owner := "SeanceStreet$Ghost") (As := [.int x1, .int x2]) (C := RX12) hC (m12_slips l hi hk (h1 rfl)) (lw_U q913 q915 q919 q920 q137 q921) (hC.K.use 7 rfl) ⟨by decide, by decide, by show _ = some 2; decide +kernel⟩ (112 + τ.2.2.1 + i) 9 gCl_X12 (wC_gx hi hk) rfl ⟨rfl, rfl, Nat.le_trans (Nat.le_of_ble_eq_true rfl) hrm, Nat.le_trans (Nat.le_of_ble_eq_true rfl) hrl⟩ ⟨hc, hs⟩ hP hD hS hl hst hdg rfl
  | 2, _, hk, h0, h1, h2, h3 => exact run_A (x := (⟨"SeanceStreet$Ghost", "slips", "(II)I"⟩ : MethodName)) (owner := "SeanceStreet$Ghost") (As := [.int x1, .int x2]) (C := RX13) hC (m13_slips l (h2 rfl)) (lw_U q913 q915 q916 q917 q138 q918) (hC.K.use 7 rfl) ⟨by decide, by decide, by show _ = some 2; decide +kernel⟩ (112 + τ.2.2.1 + i) 10 gCl_X13 (wC_gx hi hk) rfl ⟨rfl, rfl, Nat.le_trans (Nat.le_of_ble_eq_true rfl) hrm, Nat.le_trans (Nat.le_of_ble_eq_true rfl) hrl⟩ ⟨hc, hs⟩ hP hD hS hl hst hdg rfl
  | 3, _, hk, h0, h1, h2, h3 => exact run_A (x := (⟨"SeanceStreet$Ghost", "slips", "(II)I"⟩ : MethodName)) (owner := "SeanceStreet$Ghost") (As := [.int x1, .int x2]) (C := RX14) hC (m14_slips l (h3 rfl)) (lw_U q913 q915 q926 q927 q139 q928) (hC.K.use 7 rfl) ⟨by decide, by decide, by show _ = some 2; decide +kernel⟩ (112 + τ.2.2.1 + i) 11 gCl_X14 (wC_gx hi hk) rfl ⟨rfl, rfl, Nat.le_trans (Nat.le_of_ble_eq_true rfl) hrm, Nat.le_trans (Nat.le_of_ble_eq_true rfl) hrl⟩ ⟨hc, hs⟩ hP hD hS hl hst hdg rfl

def wg_law (post : Int32 → Prop) (tw : Option TD) (i : Nat) : Prop := tL tw i < 4 ∧ (tL tw i = 0 → w11_law post) ∧ (tL tw i = 1 → w12_law post) ∧ (tL tw i = 2 → w13_law post) ∧ (tL tw i = 3 → w14_law post)
theorem run_law {S : CS} {i : Nat} {post : Int32 → Prop} {rest : List Value} {R : Room} {H : Heap} {locs : List Loc} {cells slots pc nL : Nat} {cc : ByteArray} {ret0 : Option FieldType} {ls : Array Slot} (hi : i < τ.2.2.2.1) (hC : CX RX1 cc nL ret0 D gCl nwG Z Hb A p s m args meth c) (hw : wg_law post (some τ) i) (hP : va_P D gCl (wC D ad sc (some τ) S) H) (hD : va_D A (wC D ad sc (some τ) S)) (hS : va_S A s.heap H locs) (hl : ls.size = nL) (hst : (rest.map fun v => v.category).sum ≤ 8) (hrm : 120 ≤ R.frames) (hrl : 6000 ≤ R.locals) (hdg : decode cc pc = .ok (.invokevirtual 157, 3)) (hc : cells ≤ R.cells := by exact Nat.le_refl _) (hs : slots ≤ R.slots := by exact Nat.le_refl _) :
    va_Run p l e R s m args below meth c H locs cells slots 0 0 (F0 m pc ls (.ref (τ.1 (20 + i)) :: rest)) rest (va_Qi (fun r (_ : Unit) => post r) (BW D gCl A (fun _ => (wC D ad sc (some τ) S))) A (Value.ref (τ.1 (20 + i)) :: []).toArray) A := by
  obtain ⟨hlt, h0, h1, h2, h3⟩ := hw
  generalize hk : τ.2.2.2.2 i = k at *
  have hk2 : tL (some τ) i = k := hk
  rw [hk2] at hlt h0 h1 h2 h3
  match k, hlt, hk, h0, h1, h2, h3 with
  | 0, _, hk, h0, h1, h2, h3 => exact run_A (x := (⟨"SeanceStreet$Ghost", "law", "()I"⟩ : MethodName)) (owner := "SeanceStreet$Ghost") (As := []) (C := RX11) hC (m11_law l (h0 rfl)) (lw_U q949 q951 q961 q959 q136 q960) (hC.K.use 9 rfl) ⟨by decide, by decide, by show _ = some 0; decide +kernel⟩ (112 + τ.2.2.1 + i) 8 gCl_X11 (wC_gx hi hk) rfl ⟨rfl, rfl, Nat.le_trans (Nat.le_of_ble_eq_true rfl) hrm, Nat.le_trans (Nat.le_of_ble_eq_true rfl) hrl⟩ ⟨hc, hs⟩ hP hD hS hl hst hdg rfl
  | 1, _, hk, h0, h1, h2, h3 => exact run_A (x := (⟨"SeanceStreet$Ghost", "law", "()I"⟩ : MethodName)) (owner := "SeanceStreet$Ghost") (As := []) (C := RX12) hC (m12_law l hi hk (h1 rfl)) (lw_U q949 q951 q955 q956 q137 q957) (hC.K.use 9 rfl) ⟨by decide, by decide, by show _ = some 0; decide +kernel⟩ (112 + τ.2.2.1 + i) 9 gCl_X12 (wC_gx hi hk) rfl ⟨rfl, rfl, Nat.le_trans (Nat.le_of_ble_eq_true rfl) hrm, Nat.le_trans (Nat.le_of_ble_eq_true rfl) hrl⟩ ⟨hc, hs⟩ hP hD hS hl hst hdg rfl
  | 2, _, hk, h0, h1, h2, h3 => exact run_A (x := (⟨"SeanceStreet$Ghost", "law", "()I"⟩ : MethodName)) (owner := "SeanceStreet$Ghost") (As := []) (C := RX13) hC (m13_law l (h2 rfl)) (lw_U q949 q951 q952 q953 q138 q954) (hC.K.use 9 rfl) ⟨by decide, by decide, by show _ = some 0; decide +kernel⟩ (112 + τ.2.2.1 + i) 10 gCl_X13 (wC_gx hi hk) rfl ⟨rfl, rfl, Nat.le_trans (Nat.le_of_ble_eq_true rfl) hrm, Nat.le_trans (Nat.le_of_ble_eq_true rfl) hrl⟩ ⟨hc, hs⟩ hP hD hS hl hst hdg rfl
  | 3, _, hk, h0, h1, h2, h3 => exact run_A (x := (⟨"SeanceStreet$Ghost", "law", "()I"⟩ : MethodName)) (owner := "SeanceStreet$Ghost") (As := []) (C := RX14) hC (m14_law l hi hk (h3 rfl)) (lw_U q949 q951 q962 q963 q139 q964) (hC.K.use 9 rfl) ⟨by decide, by decide, by show _ = some 0; decide +kernel⟩ (112 + τ.2.2.1 + i) 11 gCl_X14 (wC_gx hi hk) rfl ⟨rfl, rfl, Nat.le_trans (Nat.le_of_ble_eq_true rfl) hrm, Nat.le_trans (Nat.le_of_ble_eq_true rfl) hrl⟩ ⟨hc, hs⟩ hP hD hS hl hst hdg rfl

def wg_rounds (post : Int32 → Prop) (tw : Option TD) (i : Nat) (x1 : Int32) (x2 : Int32) : Prop := tL tw i < 4 ∧ (tL tw i = 0 → w10_rounds post x1 x2) ∧ (tL tw i = 1 → w10_rounds post x1 x2) ∧ (tL tw i = 2 → w13_rounds post x1 x2) ∧ (tL tw i = 3 → w14_rounds post x1 x2)
theorem run_rounds {S : CS} {i : Nat} {post : Int32 → Prop} {x1 : Int32} {x2 : Int32} {rest : List Value} {R : Room} {H : Heap} {locs : List Loc} {cells slots pc nL : Nat} {cc : ByteArray} {ret0 : Option FieldType} {ls : Array Slot} (hi : i < τ.2.2.2.1) (hC : CX RX1 cc nL ret0 D gCl nwG Z Hb A p s m args meth c) (hw : wg_rounds post (some τ) i x1 x2) (hP : va_P D gCl (wC D ad sc (some τ) S) H) (hD : va_D A (wC D ad sc (some τ) S)) (hS : va_S A s.heap H locs) (hl : ls.size = nL) (hst : (rest.map fun v => v.category).sum ≤ 8) (hrm : 120 ≤ R.frames) (hrl : 6000 ≤ R.locals) (hdg : decode cc pc = .ok (.invokevirtual 205, 3)) (hc : cells ≤ R.cells := by exact Nat.le_refl _) (hs : slots ≤ R.slots := by exact Nat.le_refl _) :
    va_Run p l e R s m args below meth c H locs cells slots 0 0 (F0 m pc ls (.int x2 :: .int x1 :: .ref (τ.1 (20 + i)) :: rest)) rest (va_Qi (fun r (_ : Unit) => post r) (BW D gCl A (fun _ => (wC D ad sc (some τ) S))) A (Value.ref (τ.1 (20 + i)) :: [.int x1, .int x2]).toArray) A := by
  obtain ⟨hlt, h0, h1, h2, h3⟩ := hw
  generalize hk : τ.2.2.2.2 i = k at *
  have hk2 : tL (some τ) i = k := hk
  rw [hk2] at hlt h0 h1 h2 h3
  match k, hlt, hk, h0, h1, h2, h3 with
  | 0, _, hk, h0, h1, h2, h3 => exact run_U (x := (⟨"SeanceStreet$Ghost", "rounds", "(II)I"⟩ : MethodName)) (owner := "SeanceStreet$Ghost") (As := [.int x1, .int x2]) (C := RX11) hC (m10_rounds l (h0 rfl)) (lw_U q1039 q1041 q1050 q1040 q135 q1054) rfl ⟨by decide, by decide, by show _ = some 2; decide +kernel⟩ (112 + τ.2.2.1 + i) 8 gCl_X11 (wC_gx hi hk) rfl ⟨rfl, rfl, Nat.le_trans (Nat.le_of_ble_eq_true rfl) hrm, Nat.le_trans (Nat.le_of_ble_eq_true rfl) hrl⟩ ⟨hc, hs⟩ hP hD hS hl hst hdg rfl
  | 1, _, hk, h0, h1, h2, h3 => exact run_U (x := (⟨"SeanceStreet$Ghost", "rounds", "(II)I"⟩ : MethodName)) (owner := "SeanceStreet$Ghost") (As := [.int x1, .int x2]) (C := RX12) hC (m10_rounds l (h1 rfl)) (lw_U q1039 q1041 q1049 q1040 q135 q1054) rfl ⟨by decide, by decide, by show _ = some 2; decide +kernel⟩ (112 + τ.2.2.1 + i) 9 gCl_X12 (wC_gx hi hk) rfl ⟨rfl, rfl, Nat.le_trans (Nat.le_of_ble_eq_true rfl) hrm, Nat.le_trans (Nat.le_of_ble_eq_true rfl) hrl⟩ ⟨hc, hs⟩ hP hD hS hl hst hdg rfl
  | 2, _, hk, h0, h1, h2, h3 => exact run_O (x := (⟨"SeanceStreet$Ghost", "rounds", "(II)I"⟩ : MethodName)) (owner := "SeanceStreet$Ghost") (As := [.int x1, .int x2]) (C := RX13) hC (m13_rounds l (h2 rfl)) (lw_O q1039 q1041 q1040 q1042 q1043 q138 q1044) q1054 ⟨by decide, by decide, by show _ = some 2; decide +kernel⟩ (112 + τ.2.2.1 + i) 10 gCl_X13 (wC_gx hi hk) rfl ⟨rfl, rfl, Nat.le_trans (Nat.le_of_ble_eq_true rfl) hrm, Nat.le_trans (Nat.le_of_ble_eq_true rfl) hrl⟩ ⟨hc, hs⟩ hP hD hS hl hst hdg rfl
  | 3, _, hk, h0, h1, h2, h3 => exact run_O (x := (⟨"SeanceStreet$Ghost", "rounds", "(II)I"⟩ : MethodName)) (owner := "SeanceStreet$Ghost") (As := [.int x1, .int x2]) (C := RX14) hC (m14_rounds l (h3 rfl)) (lw_O q1039 q1041 q1040 q1051 q1052 q139 q1053) q1054 ⟨by decide, by decide, by show _ = some 2; decide +kernel⟩ (112 + τ.2.2.1 + i) 11 gCl_X14 (wC_gx hi hk) rfl ⟨rfl, rfl, Nat.le_trans (Nat.le_of_ble_eq_true rfl) hrm, Nat.le_trans (Nat.le_of_ble_eq_true rfl) hrl⟩ ⟨hc, hs⟩ hP hD hS hl hst hdg rfl

end CWgv
