set_option maxRecDepth 100000
/-! rows for constructors: the world is w ++ l, l the cells of this object, made one by one -/
theorem ap_at {α : Type} (w l : List α) (k : Nat) : (w ++ l)[w.length + k]? = l[k]? := by
  rw [List.getElem?_append_right (Nat.le_add_right _ _), Nat.add_sub_cancel_left]
theorem ap_set {α : Type} (w l : List α) (k : Nat) (x : α) : (w ++ l).set (w.length + k) x = w ++ l.set k x := by
  rw [List.set_append_right _ _ (Nat.le_add_right _ _), Nat.add_sub_cancel_left]
section IROWS
variable {p : Program} {l : Launch} {e : Env} {R : Room} {s : State} {m : MethodId} {args : Array Value} {below : List Frame} {meth : Method} {c : Code} {H : Heap} {locs : List Loc} {cells slots : Nat} {Q : State → Prop} {own host : String} {cc : ByteArray} {nL pc : Nat} {ret0 : Option FieldType} {D : va_G} {Z : State → Prop} {Hb : Heap} {A : Nat → Prop} {ls : Array Slot} {rest : List Value} {w L : va_W}
theorem kcls {U : State} {cA : ClassId} {ty : FieldType} (k : Nat) {c0 : ClassId} (hK : va_K D gCl (tysG D) U) (h0 : (tysG D)[k]? = some (c0, ty)) (hK2 : va_K D gCl (tysG D ++ [(cA, ty)]) U) : cA = c0 := by
  have h1 := (hK.2 k _ h0).2
  have h2 := (hK2.2 7 (cA, ty) (by rw [List.getElem?_append_right (by show 7 ≤ 7; omega)]; rfl)).2
  cases ty with
  | object C =>
    obtain ⟨_, _, -, -, -, g1⟩ := h1
    obtain ⟨_, _, -, -, -, g2⟩ := h2
    exact Option.some.inj (g2.symm.trans g1)
  | _ => exact Option.some.inj (h2.symm.trans h1)
theorem i_newI (hC : CX own cc nL ret0 D gCl nwG Z Hb A p s m args meth c) (hP : va_P D gCl (w ++ L) H) (hD : va_D A (w ++ L)) (hS : va_S A s.heap H locs) {n : Int32} {N : Nat} (hn : ¬ n < 0) (hN : n.toNatClampNeg = N) (hby : N ≤ 100000) (hc : cells + 1 ≤ R.cells) (hs : slots + N ≤ R.slots) (hdg : decode cc pc = .ok (.newarray .int, 2))
    (kk : ∀ (q : Nat) (H : Heap), va_P D gCl (w ++ (L ++ [(q, .inl (D.1 100, N, .inl (fun _ => 0)))])) H → va_D A (w ++ (L ++ [(q, .inl (D.1 100, N, .inl (fun _ => 0)))])) → va_S A s.heap H locs → W p l e R s m args below meth c H locs (cells + 1) (slots + N) Q (F0 m (pc + 2) ls (.ref q :: rest))) : W p l e R s m args below meth c H locs cells slots Q (F0 m pc ls (.int n :: rest)) := by
  refine va_newa (atype := .int) (a0 := (N, .inl (fun _ => 0))) hC.x hC.b (hC.ts _ q291) rfl hC.K.1 hP hD hS hC.aA (fun cA => rfl) hn hN (by show N * 4 ≤ _; omega) hc hs hdg (fun q cA H1 hK2 hP hD hS => ?_)
  have e := kcls 0 hC.K.1 rfl hK2
  subst e
  rw [List.append_assoc] at hP hD
  exact kk q H1 hP hD hS
theorem i_newJ (hC : CX own cc nL ret0 D gCl nwG Z Hb A p s m args meth c) (hP : va_P D gCl (w ++ L) H) (hD : va_D A (w ++ L)) (hS : va_S A s.heap H locs) {n : Int32} {N : Nat} (hn : ¬ n < 0) (hN : n.toNatClampNeg = N) (hby : N ≤ 100000) (hc : cells + 1 ≤ R.cells) (hs : slots + N ≤ R.slots) (hdg : decode cc pc = .ok (.newarray .long, 2))
    (kk : ∀ (q : Nat) (H : Heap), va_P D gCl (w ++ (L ++ [(q, .inl (D.1 101, N, .inr (.inl (fun _ => 0))))])) H → va_D A (w ++ (L ++ [(q, .inl (D.1 101, N, .inr (.inl (fun _ => 0))))])) → va_S A s.heap H locs → W p l e R s m args below meth c H locs (cells + 1) (slots + N) Q (F0 m (pc + 2) ls (.ref q :: rest))) : W p l e R s m args below meth c H locs cells slots Q (F0 m pc ls (.int n :: rest)) := by
  refine va_newa (atype := .long) (a0 := (N, .inr (.inl (fun _ => 0)))) hC.x hC.b (hC.ts _ q1496) rfl hC.K.1 hP hD hS hC.aA (fun cA => rfl) hn hN (by show N * 8 ≤ _; omega) hc hs hdg (fun q cA H1 hK2 hP hD hS => ?_)
  have e := kcls 1 hC.K.1 rfl hK2
  subst e
  rw [List.append_assoc] at hP hD
  exact kk q H1 hP hD hS
theorem i_newB (hC : CX own cc nL ret0 D gCl nwG Z Hb A p s m args meth c) (hP : va_P D gCl (w ++ L) H) (hD : va_D A (w ++ L)) (hS : va_S A s.heap H locs) {n : Int32} {N : Nat} (hn : ¬ n < 0) (hN : n.toNatClampNeg = N) (hby : N ≤ 100000) (hc : cells + 1 ≤ R.cells) (hs : slots + N ≤ R.slots) (hdg : decode cc pc = .ok (.newarray .byte, 2))
    (kk : ∀ (q : Nat) (H : Heap), va_P D gCl (w ++ (L ++ [(q, .inl (D.1 102, N, .inl (fun _ => 0)))])) H → va_D A (w ++ (L ++ [(q, .inl (D.1 102, N, .inl (fun _ => 0)))])) → va_S A s.heap H locs → W p l e R s m args below meth c H locs (cells + 1) (slots + N) Q (F0 m (pc + 2) ls (.ref q :: rest))) : W p l e R s m args below meth c H locs cells slots Q (F0 m pc ls (.int n :: rest)) := by
  refine va_newa (atype := .byte) (a0 := (N, .inl (fun _ => 0))) hC.x hC.b (hC.ts _ q231) rfl hC.K.1 hP hD hS hC.aA (fun cA => rfl) hn hN (by show N * 1 ≤ _; omega) hc hs hdg (fun q cA H1 hK2 hP hD hS => ?_)
  have e := kcls 2 hC.K.1 rfl hK2
  subst e
  rw [List.append_assoc] at hP hD
  exact kk q H1 hP hD hS
theorem i_newC (hC : CX own cc nL ret0 D gCl nwG Z Hb A p s m args meth c) (hP : va_P D gCl (w ++ L) H) (hD : va_D A (w ++ L)) (hS : va_S A s.heap H locs) {n : Int32} {N : Nat} (hn : ¬ n < 0) (hN : n.toNatClampNeg = N) (hby : N ≤ 100000) (hc : cells + 1 ≤ R.cells) (hs : slots + N ≤ R.slots) (hdg : decode cc pc = .ok (.newarray .char, 2))
    (kk : ∀ (q : Nat) (H : Heap), va_P D gCl (w ++ (L ++ [(q, .inl (D.1 103, N, .inl (fun _ => 0)))])) H → va_D A (w ++ (L ++ [(q, .inl (D.1 103, N, .inl (fun _ => 0)))])) → va_S A s.heap H locs → W p l e R s m args below meth c H locs (cells + 1) (slots + N) Q (F0 m (pc + 2) ls (.ref q :: rest))) : W p l e R s m args below meth c H locs cells slots Q (F0 m pc ls (.int n :: rest)) := by
  refine va_newa (atype := .char) (a0 := (N, .inl (fun _ => 0))) hC.x hC.b (hC.ts _ q263) rfl hC.K.1 hP hD hS hC.aA (fun cA => rfl) hn hN (by show N * 2 ≤ _; omega) hc hs hdg (fun q cA H1 hK2 hP hD hS => ?_)
  have e := kcls 3 hC.K.1 rfl hK2
  subst e
  rw [List.append_assoc] at hP hD
  exact kk q H1 hP hD hS
theorem i_newQ {C : String} {k : Nat} {c0 : ClassId} {index : Nat} (h0 : (tysG D)[k]? = some (c0, .object C)) (hover : va_AO C s) (hC : CX own cc nL ret0 D gCl nwG Z Hb A p s m args meth c) (hlk : (Cond.classLink own index C).before args s = true) (hP : va_P D gCl (w ++ L) H) (hD : va_D A (w ++ L)) (hS : va_S A s.heap H locs) {n : Int32} {N : Nat} (hn : ¬ n < 0) (hN : n.toNatClampNeg = N) (hby : N ≤ 100000) (hc : cells + 1 ≤ R.cells) (hs : slots + N ≤ R.slots) (hdg : decode cc pc = .ok (.anewarray index, 3))
    (kk : ∀ (q : Nat) (H : Heap), va_P D gCl (w ++ (L ++ [(q, .inl (c0, N, .inr (.inr (.inr (.inr (fun _ => none))))))])) H → va_D A (w ++ (L ++ [(q, .inl (c0, N, .inr (.inr (.inr (.inr (fun _ => none))))))])) → va_S A s.heap H locs → W p l e R s m args below meth c H locs (cells + 1) (slots + N) Q (F0 m (pc + 3) ls (.ref q :: rest))) : W p l e R s m args below meth c H locs cells slots Q (F0 m pc ls (.int n :: rest)) := by
  refine va_newq hC.x hC.b hC.ow hlk hover hC.K.1 hP hD hS hC.aA hn hN (by omega) hc hs hdg (fun q cA H1 hK2 hP hD hS => ?_)
  have e := kcls k hC.K.1 h0 hK2
  subst e
  rw [List.append_assoc] at hP hD
  exact kk q H1 hP hD hS
end IROWS
section IRUN
variable {p : Program} {l : Launch} {e : Env} {R : Room} {s : State} {m : MethodId} {args : Array Value} {below : List Frame} {meth : Method} {c : Code} {H : Heap} {locs : List Loc} {cells slots : Nat} {Q : State → Prop}
variable {own C host : String} {cc bytes : ByteArray} {nL maxL index mc ms pc : Nat} {ret0 ret : Option FieldType} {D : va_G} {cl : List vw_C} {nw : List Cond} {Z : State → Prop} {Hb : Heap} {A : Nat → Prop} {y : MethodName} {rm : Room} {b : Addr} {As rest st0 : List Value} {w : va_W} {Qc : Array Value → State → Outcome → State → Prop} {ls : Array Slot}
theorem run_IN (hC : CX own cc nL ret0 D cl nw Z Hb A p s m args meth c) (hM : Met l y (ws_ y bytes maxL none) rm (va_Pc (.ref b :: As) (PcG D cl nw Z Hb A w)) Qc mc ms A) (hlk : va_Nw (.methodLinkNest own index y host) s)
    (hg : Cond.code y bytes maxL none ∈ lw_all ∧ Cond.initialized y.cls ∈ lw_all ∧ Cond.instanceMethod y ∈ lw_all)
    (hd : y.cls ≠ "java/lang/invoke/MethodHandle" ∧ y.cls ≠ "java/lang/invoke/VarHandle" ∧ (parseMethodDescriptor y.desc).map (fun d => d.parameters.length) = some As.length) (hn : y.name = "<init>")
    (hrm : rm.cells = mc ∧ rm.slots = ms ∧ rm.frames + 1 ≤ R.frames ∧ 8 + (maxL + 11) + rm.locals ≤ R.locals) (hf : cells + mc ≤ R.cells ∧ slots + ms ≤ R.slots)
    (hP : va_P D cl w H) (hD : va_D A w) (hS : va_S A s.heap H locs) (hl : ls.size = nL) (hst : (rest.map fun v => v.category).sum ≤ 8) (hdg : decode cc pc = .ok (.invokespecial index, 3)) (hstk : st0 = As.reverse ++ .ref b :: rest) :
    va_Run p l e R s m args below meth c H locs cells slots mc ms (F0 m pc ls st0) rest (Qc (Value.ref b :: As).toArray) A := by
  refine va_runIN ⟨hC.x, hC.b, hC.ml, hC.ow, hC.ts⟩ hM ⟨va_cnB As.length hC.ts (lw_meth hg.1) rfl hrm.1 hrm.2.1 hlk (hC.ts _ hg.2.1) hd hrm.2.2, hn, hC.ts _ hg.2.2⟩ ⟨pcG_blind, ?_⟩ rfl rfl hl hstk (lv_room hst) hdg hf
  intro U hU hW
  exact ⟨rfl, by rw [hU]; exact hP, hD, hC.K.moved hW, fun q hq => hC.aA q (Nat.le_trans hS.1 (by rw [← hU]; exact hq)), by rw [hU]; exact hC.ag.on hC.aA hS⟩
theorem run_I (hC : CX own cc nL ret0 D cl nw Z Hb A p s m args meth c) (hM : Met l y (ws_ y bytes maxL none) rm (va_Pc (.ref b :: As) (PcG D cl nw Z Hb A w)) Qc mc ms A) (hlk : Cond.methodLink own index y ∈ lw_all)
    (hg : Cond.code y bytes maxL none ∈ lw_all ∧ Cond.initialized y.cls ∈ lw_all ∧ Cond.instanceMethod y ∈ lw_all)
    (hd : y.cls ≠ "java/lang/invoke/MethodHandle" ∧ y.cls ≠ "java/lang/invoke/VarHandle" ∧ (parseMethodDescriptor y.desc).map (fun d => d.parameters.length) = some As.length) (hn : y.name = "<init>")
    (hrm : rm.cells = mc ∧ rm.slots = ms ∧ rm.frames + 1 ≤ R.frames ∧ 8 + (maxL + 11) + rm.locals ≤ R.locals) (hf : cells + mc ≤ R.cells ∧ slots + ms ≤ R.slots)
    (hP : va_P D cl w H) (hD : va_D A w) (hS : va_S A s.heap H locs) (hl : ls.size = nL) (hst : (rest.map fun v => v.category).sum ≤ 8) (hdg : decode cc pc = .ok (.invokespecial index, 3)) (hstk : st0 = As.reverse ++ .ref b :: rest) :
    va_Run p l e R s m args below meth c H locs cells slots mc ms (F0 m pc ls st0) rest (Qc (Value.ref b :: As).toArray) A := by
  refine va_runI ⟨hC.x, hC.b, hC.ml, hC.ow, hC.ts⟩ hM ⟨callB_of As.length hC.ts (lw_meth hg.1) rfl hrm.1 hrm.2.1 (hC.ts _ hg.2.1) (hC.ts _ hlk) hd hrm.2.2, hn, hC.ts _ hg.2.2⟩ ⟨pcG_blind, ?_⟩ rfl rfl hl hstk (lv_room hst) hdg hf
  intro U hU hW
  exact ⟨rfl, by rw [hU]; exact hP, hD, hC.K.moved hW, fun q hq => hC.aA q (Nat.le_trans hS.1 (by rw [← hU]; exact hq)), by rw [hU]; exact hC.ag.on hC.aA hS⟩
end IRUN
