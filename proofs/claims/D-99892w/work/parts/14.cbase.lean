set_option maxRecDepth 100000
/-- what a town's people and dead are, out of what there is of a town -/
def tP (tw : Option TD) : Nat := match tw with | some τ => τ.2.2.1 | none => 0
def tG (tw : Option TD) : Nat := match tw with | some τ => τ.2.2.2.1 | none => 0
def tL (tw : Option TD) (d : Nat) : Nat := match tw with | some τ => τ.2.2.2.2 d | none => 0
section CBRUN
variable {p : Program} {l : Launch} {e : Env} {R : Room} {s : State} {m : MethodId} {args : Array Value} {below : List Frame} {meth : Method} {c : Code} {H : Heap} {locs : List Loc} {cells slots : Nat} {Q : State → Prop}
variable {own C host : String} {cc bytes : ByteArray} {nL maxL index mc ms pc : Nat} {ret0 ret : Option FieldType} {D : va_G} {cl : List vw_C} {nw : List Cond} {Z : State → Prop} {Hb : Heap} {A : Nat → Prop} {y : MethodName} {rm : Room} {b : Addr} {As rest st0 : List Value} {w : va_W} {Qc : Array Value → State → Outcome → State → Prop} {ls : Array Slot}
theorem st_ref {x : Option Nat} {a : Nat} (h : x = some a) (kk : W p l e R s m args below meth c H locs cells slots Q (F0 m pc ls (.ref a :: rest))) : W p l e R s m args below meth c H locs cells slots Q (F0 m pc ls (va_rf x :: rest)) := by
  subst h
  exact kk
theorem run_SN (hC : CX own cc nL ret0 D cl nw Z Hb A p s m args meth c) (hM : Met l y (ws_ y bytes maxL ret) rm (va_Pc As (PcG D cl nw Z Hb A w)) Qc mc ms A) (hlk : va_Nw (.methodLinkNest own index y host) s)
    (hg : Cond.code y bytes maxL ret ∈ lw_all ∧ Cond.initialized y.cls ∈ lw_all ∧ Cond.static y ∈ lw_all)
    (hd : y.cls ≠ "java/lang/invoke/MethodHandle" ∧ y.cls ≠ "java/lang/invoke/VarHandle" ∧ (parseMethodDescriptor y.desc).map (fun d => d.parameters.length) = some As.length)
    (hrm : rm.cells = mc ∧ rm.slots = ms ∧ rm.frames + 1 ≤ R.frames ∧ 8 + (maxL + 11) + rm.locals ≤ R.locals) (hf : cells + mc ≤ R.cells ∧ slots + ms ≤ R.slots)
    (hP : va_P D cl w H) (hD : va_D A w) (hS : va_S A s.heap H locs) (hl : ls.size = nL) (hst : (rest.map fun v => v.category).sum ≤ 8) (hdg : decode cc pc = .ok (.invokestatic index, 3)) (hstk : st0 = As.reverse ++ rest) :
    va_Run p l e R s m args below meth c H locs cells slots mc ms (F0 m pc ls st0) rest (Qc As.toArray) A := by
  refine va_runSN ⟨hC.x, hC.b, hC.ml, hC.ow, hC.ts⟩ hM ⟨va_cnB As.length hC.ts (lw_meth hg.1) rfl hrm.1 hrm.2.1 hlk (hC.ts _ hg.2.1) hd hrm.2.2, hC.ts _ hg.2.2, trivial⟩ ⟨pcG_blind, ?_⟩ rfl rfl hl hstk (lv_room hst) hdg hf
  intro U hU hW
  exact ⟨rfl, by rw [hU]; exact hP, hD, hC.K.moved hW, fun q hq => hC.aA q (Nat.le_trans hS.1 (by rw [← hU]; exact hq)), by rw [hU]; exact hC.ag.on hC.aA hS⟩
/-- a call whose named method is abstract: the class C of the receiver has it as y -/
theorem run_A {x : MethodName} {owner : String} (hC : CX own cc nL ret0 D cl nw Z Hb A p s m args meth c) (hM : Met l y (ws_ y bytes maxL ret) rm (va_Pc (.ref b :: As) (PcG D cl nw Z Hb A w)) Qc mc ms A) (hq : GoodIn lw_all (va_wsU own index C owner x y (ws_ y bytes maxL ret))) (hz : va_Nw (.declares ⟨owner, x.name, x.desc⟩) s)
    (hd : owner ≠ "java/lang/invoke/MethodHandle" ∧ owner ≠ "java/lang/invoke/VarHandle" ∧ (parseMethodDescriptor x.desc).map (fun d => d.parameters.length) = some As.length)
    (q0 ci : Nat) {qc : vw_C} {fs : List Value} (hc : cl[ci]? = some qc) (he : w[q0]? = some (b, .inr (ci, fs))) (hcn : qc.1 = C)
    (hrm : rm.cells = mc ∧ rm.slots = ms ∧ rm.frames + 1 ≤ R.frames ∧ 8 + (maxL + 11) + rm.locals ≤ R.locals) (hf : cells + mc ≤ R.cells ∧ slots + ms ≤ R.slots)
    (hP : va_P D cl w H) (hD : va_D A w) (hS : va_S A s.heap H locs) (hl : ls.size = nL) (hst : (rest.map fun v => v.category).sum ≤ 8) (hdg : decode cc pc = .ok (.invokevirtual index, 3)) (hstk : st0 = As.reverse ++ .ref b :: rest) :
    va_Run p l e R s m args below meth c H locs cells slots mc ms (F0 m pc ls st0) rest (Qc (Value.ref b :: As).toArray) A := by
  refine va_runU (x := x) (owner := owner) (C := C) ⟨hC.x, hC.b, hC.ml, hC.ow, hC.ts⟩ hM (va_cwA As.length hC.ts hq rfl hrm.1 hrm.2.1 hz hd hrm.2.2) ⟨pcG_blind, ?_, ?_⟩ rfl rfl hl hstk (lv_room hst) hdg hf
  · rw [← hcn]
    exact va_recv hC.K.1 hP hc he
  · intro U hU hW
    exact ⟨rfl, by rw [hU]; exact hP, hD, hC.K.moved hW, fun q hq => hC.aA q (Nat.le_trans hS.1 (by rw [← hU]; exact hq)), by rw [hU]; exact hC.ag.on hC.aA hS⟩
/-- an inherited method by its own name (owner = where it stands) -/
theorem run_U {x : MethodName} {owner : String} (hC : CX own cc nL ret0 D cl nw Z Hb A p s m args meth c) (hM : Met l y (ws_ y bytes maxL ret) rm (va_Pc (.ref b :: As) (PcG D cl nw Z Hb A w)) Qc mc ms A) (hq : GoodIn lw_all (va_wsU own index C owner x y (ws_ y bytes maxL ret))) (hyx : y = ⟨owner, x.name, x.desc⟩)
    (hd : owner ≠ "java/lang/invoke/MethodHandle" ∧ owner ≠ "java/lang/invoke/VarHandle" ∧ (parseMethodDescriptor x.desc).map (fun d => d.parameters.length) = some As.length)
    (q0 ci : Nat) {qc : vw_C} {fs : List Value} (hc : cl[ci]? = some qc) (he : w[q0]? = some (b, .inr (ci, fs))) (hcn : qc.1 = C)
    (hrm : rm.cells = mc ∧ rm.slots = ms ∧ rm.frames + 1 ≤ R.frames ∧ 8 + (maxL + 11) + rm.locals ≤ R.locals) (hf : cells + mc ≤ R.cells ∧ slots + ms ≤ R.slots)
    (hP : va_P D cl w H) (hD : va_D A w) (hS : va_S A s.heap H locs) (hl : ls.size = nL) (hst : (rest.map fun v => v.category).sum ≤ 8) (hdg : decode cc pc = .ok (.invokevirtual index, 3)) (hstk : st0 = As.reverse ++ .ref b :: rest) :
    va_Run p l e R s m args below meth c H locs cells slots mc ms (F0 m pc ls st0) rest (Qc (Value.ref b :: As).toArray) A := by
  refine va_runU (x := x) (owner := owner) (C := C) ⟨hC.x, hC.b, hC.ml, hC.ow, hC.ts⟩ hM (va_cwU As.length hC.ts hq rfl hrm.1 hrm.2.1 hyx hd hrm.2.2) ⟨pcG_blind, ?_, ?_⟩ rfl rfl hl hstk (lv_room hst) hdg hf
  · rw [← hcn]
    exact va_recv hC.K.1 hP hc he
  · intro U hU hW
    exact ⟨rfl, by rw [hU]; exact hP, hD, hC.K.moved hW, fun q hq => hC.aA q (Nat.le_trans hS.1 (by rw [← hU]; exact hq)), by rw [hU]; exact hC.ag.on hC.aA hS⟩
/-- a call by super -/
theorem run_SU (hC : CX own cc nL ret0 D cl nw Z Hb A p s m args meth c) (hM : Met l y (ws_ y bytes maxL ret) rm (va_Pc (.ref b :: As) (PcG D cl nw Z Hb A w)) Qc mc ms A) (hq : GoodIn lw_all (va_wsSU own index y (ws_ y bytes maxL ret)))
    (hd : y.name ≠ "<init>" ∧ (parseMethodDescriptor y.desc).map (fun d => d.parameters.length) = some As.length)
    (q0 ci : Nat) {qc : vw_C} {fs : List Value} (hc : cl[ci]? = some qc) (he : w[q0]? = some (b, .inr (ci, fs))) (hcn : qc.1 = C)
    (hrm : rm.cells = mc ∧ rm.slots = ms ∧ rm.frames + 1 ≤ R.frames ∧ 8 + (maxL + 11) + rm.locals ≤ R.locals) (hf : cells + mc ≤ R.cells ∧ slots + ms ≤ R.slots)
    (hP : va_P D cl w H) (hD : va_D A w) (hS : va_S A s.heap H locs) (hl : ls.size = nL) (hst : (rest.map fun v => v.category).sum ≤ 8) (hdg : decode cc pc = .ok (.invokespecial index, 3)) (hstk : st0 = As.reverse ++ .ref b :: rest) :
    va_Run p l e R s m args below meth c H locs cells slots mc ms (F0 m pc ls st0) rest (Qc (Value.ref b :: As).toArray) A := by
  refine va_runSU (C := C) (by rw [← hcn]; exact (hC.K.1.1 ci qc hc).2) ⟨hC.x, hC.b, hC.ml, hC.ow, hC.ts⟩ hM (va_cwSU As.length hC.ts hq rfl hrm.1 hrm.2.1 hd hrm.2.2) ⟨pcG_blind, ?_, ?_⟩ rfl rfl hl hstk (lv_room hst) hdg hf
  · rw [← hcn]
    exact va_recv hC.K.1 hP hc he
  · intro U hU hW
    exact ⟨rfl, by rw [hU]; exact hP, hD, hC.K.moved hW, fun q hq => hC.aA q (Nat.le_trans hS.1 (by rw [← hU]; exact hq)), by rw [hU]; exact hC.ag.on hC.aA hS⟩
variable {T : Type} {wf : T → va_W} {a : Array Value}
theorem go_r {post : T → Prop} {b0 : Nat} (hr : va_Run p l e R s m args below meth c H locs cells slots mc ms (F0 m pc ls st0) rest (va_Qr post (fun u x t => x = b0 ∧ BW D cl A wf u t) A a) A) (hS : va_S A s.heap H locs)
    (kk : ∀ (u : T) (H1 : Heap) (locs1 : List Loc), post u → va_P D cl (wf u) H1 → va_D A (wf u) → va_S A s.heap H1 locs1 → W p l e R s m args below meth c H1 locs1 (cells + mc) (slots + ms) Q (F0 m (pc + 3) ls (.ref b0 :: rest))) : W p l e R s m args below meth c H locs cells slots Q (F0 m pc ls st0) :=
  va_callr hr hS (fun _ _ h => h) (fun _ h => h) (fun u x t H1 locs1 ht _ hp hB _ _ hS1 => by
    obtain ⟨rfl, hB⟩ := hB
    exact kk u H1 locs1 hp (by rw [← ht]; exact hB.1) hB.2 hS1)
theorem rt_r {post : T → Prop} {b0 : Nat} {u : T} {rt : FieldType} (hC : CX own cc nL (some rt) D cl nw Z Hb A p s m args meth c) (hrt : ∃ n, rt = .object n) (hw : post u) (hP : va_P D cl (wf u) H) (hD : va_D A (wf u)) (hS : va_S A s.heap H locs) (hdg : decode cc pc = .ok (.areturn, 1)) :
    W p l e R s m args below meth c H locs cells slots (MQ below (va_Qr post (fun u x t => x = b0 ∧ BW D cl A wf u t) A) args s cells slots A) (F0 m pc ls [.ref b0]) :=
  W.aret (v := .ref b0) hC.x hC.b hC.r (Or.inl hrt) (Or.inr ⟨_, rfl⟩) (fun t ht _ => ⟨⟨u, b0, rfl, hw, rfl, by rw [ht]; exact hP, hD⟩, hS.F ht⟩) hS.2.2 hdg hC.lk
end CBRUN
