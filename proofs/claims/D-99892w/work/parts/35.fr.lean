set_option maxRecDepth 100000
/-! CALLS INTO A PART OF THE WORLD: the rest of it stays -/
abbrev nse : String := "java/util/NoSuchElementException"
/-- what a throw of one's own needs of the launch -/
def zL (A : Nat → Prop) (Hb : Heap) (U : State) : Prop := vx_Zq Bundle.tN "UNASSIGNED_STACK" Bundle.steD A U Hb ∧ vx_Zq Bundle.tN "SUPPRESSED_SENTINEL" Bundle.listD A U Hb ∧ va_Nw (.declares { cls := "java/lang/RuntimeException", name := "<init>", desc := "()V" }) U ∧ va_Nw (.declares { cls := "java/lang/Exception", name := "<init>", desc := "()V" }) U ∧ va_Nw (.declares { cls := "java/lang/Throwable", name := "<init>", desc := "()V" }) U ∧ va_Nw (.castable nse nse) U
def zA (adK adV : Nat → Nat) (A : Nat → Prop) (Hb : Heap) (U : State) : Prop := zS adK adV A Hb U ∧ zL A Hb U
theorem zThr.next {A B : Nat → Prop} {Hb H : Heap} {U : State} (h : zThr A Hb U) (hg : AgB A Hb H) (hAB : ∀ q, B q → A q) : zThr B H U := by
  obtain ⟨⟨o, h1⟩, o2, h2⟩ := h
  exact ⟨⟨o, (h1.kept hg).narrow hAB⟩, o2, (h2.kept hg).narrow hAB⟩
theorem zS.next {adK adV : Nat → Nat} {A B : Nat → Prop} {Hb H : Heap} {U : State} (h : zS adK adV A Hb U) (hg : AgB A Hb H) (hAB : ∀ q, B q → A q) : zS adK adV B H U := by
  obtain ⟨h1, h2, ⟨o, h3⟩, h4, h5⟩ := h
  refine ⟨h1.next hg hAB, (h2.kept hg).narrow hAB, ⟨o, (h3.kept hg).narrow hAB⟩, fun i x hx => ?_, h5⟩
  obtain ⟨g1, g2, g3, g4, g5⟩ := h4 i x hx
  exact ⟨g1, (g2.kept hg).narrow hAB, (g3.kept hg).narrow hAB, (g4.kept hg).narrow hAB, (g5.kept hg).narrow hAB⟩
theorem zL.next {A B : Nat → Prop} {Hb H : Heap} {U : State} (h : zL A Hb U) (hg : AgB A Hb H) (hAB : ∀ q, B q → A q) : zL B H U := by
  obtain ⟨h1, h2, h3⟩ := h
  exact ⟨(h1.kept hg).narrow hAB, (h2.kept hg).narrow hAB, h3⟩
theorem zA.next {adK adV : Nat → Nat} {A B : Nat → Prop} {Hb H : Heap} {U : State} (h : zA adK adV A Hb U) (hg : AgB A Hb H) (hAB : ∀ q, B q → A q) : zA adK adV B H U := ⟨h.1.next hg hAB, h.2.next hg hAB⟩
section FRD
variable {D : va_G} {cl : List vw_C} {A : Nat → Prop} {w1 w2 wr : va_W} {H H1 : Heap} {n : Nat}
theorem fr_D (hD : va_D A (w1 ++ wr)) : va_D (va_A w1 n) w1 :=
  ⟨fun i j p q hi hj e => hD.1 i j p q (by rw [List.getElem?_append_left (List.getElem?_eq_some_iff.mp hi).1]; exact hi) (by rw [List.getElem?_append_left (List.getElem?_eq_some_iff.mp hj).1]; exact hj) e, fun k q hk => va_A.in hk⟩
theorem fr_P (hP : va_P D cl (w1 ++ wr) H) : va_P D cl w1 H := fun k q hk => hP k q (by rw [List.getElem?_append_left (List.getElem?_eq_some_iff.mp hk).1]; exact hk)
theorem fr_join (hP : va_P D cl (w1 ++ wr) H) (hD : va_D A (w1 ++ wr)) (hF : ∀ q, va_A w1 H.size q → A q) (hk : ∀ q : Nat, q < H.size → ¬ va_A w1 H.size q → H1[q]? = H[q]?) (hP1 : va_P D cl w2 H1) (hD1 : va_D (va_A w1 H.size) w2) : va_P D cl (w2 ++ wr) H1 ∧ va_D A (w2 ++ wr) := by
  have ati : ∀ (k : Nat) (q : Nat × va_E), wr[k]? = some q → (w1 ++ wr)[w1.length + k]? = some q := fun k q hq => by
    rw [List.getElem?_append_right (by omega), Nat.add_sub_cancel_left]; exact hq
  have apart : ∀ (k : Nat) (q : Nat × va_E), wr[k]? = some q → q.1 < H.size ∧ ¬ va_A w1 H.size q.1 := by
    intro k q hq
    have hl := (hP _ q (ati k q hq)).lt
    refine ⟨hl, fun h => ?_⟩
    rcases h with ⟨k2, e, h⟩ | h
    · have hlt := (List.getElem?_eq_some_iff.mp h).1
      have hij := hD.1 (w1.length + k) k2 q (q.1, e) (ati k q hq) (by rw [List.getElem?_append_left hlt]; exact h) rfl
      omega
    · omega
  refine ⟨va_P.app hP1 (fun k q hq => ?_), va_D.app (hD1.weaken (fun k q _ h => hF q.1 h)) ⟨fun i j p q hi hj e => ?_, fun k q hk => hD.2 _ q (ati k q hk)⟩ (fun i j x y hx hy hxy => ?_)⟩
  · obtain ⟨g1, g2⟩ := apart k q hq
    exact (hP _ q (ati k q hq)).kept (hk q.1 g1 g2)
  · have := hD.1 _ _ p q (ati i p hi) (ati j q hj) e
    omega
  · exact (apart j y hy).2 (by rw [← hxy]; exact hD1.2 i x hx)
end FRD
section FRW
variable {p : Program} {l : Launch} {e : Env} {R : Room} {s : State} {m : MethodId} {args : Array Value} {below : List Frame} {meth : Method} {c : Code} {H : Heap} {locs : List Loc} {cells slots : Nat} {Q : State → Prop}
variable {own C : String} {cc bytes : ByteArray} {nL maxL index mc ms pc : Nat} {ret0 ret : Option FieldType} {D : va_G} {Z : State → Prop} {Hb : Heap} {A : Nat → Prop} {y : MethodName} {rm : Room} {b : Addr} {As rest st0 : List Value} {w1 wr : va_W} {Qc : Array Value → State → Outcome → State → Prop} {XC : String → State → State → Prop} {ls : Array Slot}
theorem fr_A (hC : CX own cc nL ret0 D gCl nwG Z Hb A p s m args meth c) (hD : va_D A (w1 ++ wr)) (hS : va_S A s.heap H locs) : ∀ q, va_A w1 H.size q → A q := by
  intro q h
  rcases h with ⟨k, e, h⟩ | h
  · exact hD.2 k (q, e) (by rw [List.getElem?_append_left (List.getElem?_eq_some_iff.mp h).1]; exact h)
  · exact hC.aA q (Nat.le_trans hS.1 h)
theorem fr_Pc (hC : CX own cc nL ret0 D gCl nwG Z Hb A p s m args meth c) (hP : va_P D gCl (w1 ++ wr) H) (hD : va_D A (w1 ++ wr)) : ∀ U : State, U.heap = H → s.WarmedH U.vm → PcG D gCl nwG Z H (va_A w1 H.size) w1 U :=
  fun U hU hW => ⟨by rw [hU]; exact fr_P hP, fr_D hD, hC.K.moved hW, fun q hq => Or.inr (by rw [← hU]; exact hq), fun q _ _ => by rw [hU]⟩
theorem fr_V (hC : CX own cc nL ret0 D gCl nwG Z Hb A p s m args meth c) (hM : Met l y (ws_ y bytes maxL ret) rm (va_Pc (.ref b :: As) (PcG D gCl nwG Z H (va_A w1 H.size) w1)) Qc mc ms (va_A w1 H.size)) (hq : GoodIn lw_all (wsV own index C y (ws_ y bytes maxL ret)))
    (hd : y.cls = C ∧ y.cls ≠ "java/lang/invoke/MethodHandle" ∧ y.cls ≠ "java/lang/invoke/VarHandle" ∧ (parseMethodDescriptor y.desc).map (fun d => d.parameters.length) = some As.length)
    (q0 ci : Nat) {qc : vw_C} {fs : List Value} (hc : gCl[ci]? = some qc) (he : w1[q0]? = some (b, .inr (ci, fs))) (hcn : qc.1 = C)
    (hrm : rm.cells = mc ∧ rm.slots = ms ∧ rm.frames + 1 ≤ R.frames ∧ 8 + (maxL + 11) + rm.locals ≤ R.locals) (hf : cells + mc ≤ R.cells ∧ slots + ms ≤ R.slots)
    (hP : va_P D gCl (w1 ++ wr) H) (hD : va_D A (w1 ++ wr)) (hl : ls.size = nL) (hst : (rest.map fun v => v.category).sum ≤ 8) (hdg : decode cc pc = .ok (.invokevirtual index, 3)) (hstk : st0 = As.reverse ++ .ref b :: rest) :
    va_Run p l e R s m args below meth c H locs cells slots mc ms (F0 m pc ls st0) rest (Qc (Value.ref b :: As).toArray) (va_A w1 H.size) := by
  refine va_runV ⟨hC.x, hC.b, hC.ml, hC.ow, hC.ts⟩ hM (cwV As.length hC.ts hq rfl hrm.1 hrm.2.1 hd hrm.2.2) ⟨pcG_blind, ?_, ?_⟩ rfl rfl hl hstk (lv_room hst) hdg hf
  · rw [← hcn]
    exact va_recv hC.K.1 (fr_P hP) hc he
  · intro U hU hW
    exact ⟨rfl, fr_Pc hC hP hD U hU hW⟩
variable {T SX : Type} {wf : T → va_W} {a : Array Value}
theorem fg_i {post : Int32 → T → Prop} (hC : CX own cc nL ret0 D gCl nwG Z Hb A p s m args meth c) (hr : va_Run p l e R s m args below meth c H locs cells slots mc ms (F0 m pc ls st0) rest (va_Qi post (BW D gCl (va_A w1 H.size) wf) (va_A w1 H.size) a) (va_A w1 H.size)) (hP : va_P D gCl (w1 ++ wr) H) (hD : va_D A (w1 ++ wr)) (hS : va_S A s.heap H locs)
    (kk : ∀ (r : Int32) (u : T) (H1 : Heap) (locs1 : List Loc), post r u → va_P D gCl (wf u ++ wr) H1 → va_D A (wf u ++ wr) → va_S A s.heap H1 locs1 → W p l e R s m args below meth c H1 locs1 (cells + mc) (slots + ms) Q (F0 m (pc + 3) ls (.int r :: rest))) : W p l e R s m args below meth c H locs cells slots Q (F0 m pc ls st0) :=
  va_calli hr hS (fun q _ h => fr_A hC hD hS q h) (fun q h => fr_A hC hD hS q h) (fun r u t H1 locs1 ht _ hp hB _ hk hS1 => by
    obtain ⟨g1, g2⟩ := fr_join hP hD (fr_A hC hD hS) hk (by rw [← ht]; exact hB.1) hB.2
    exact kk r u H1 locs1 hp g1 g2 hS1)
theorem fg_l {post : Int64 → T → Prop} (hC : CX own cc nL ret0 D gCl nwG Z Hb A p s m args meth c) (hr : va_Run p l e R s m args below meth c H locs cells slots mc ms (F0 m pc ls st0) rest (va_Ql post (BW D gCl (va_A w1 H.size) wf) (va_A w1 H.size) a) (va_A w1 H.size)) (hP : va_P D gCl (w1 ++ wr) H) (hD : va_D A (w1 ++ wr)) (hS : va_S A s.heap H locs)
    (kk : ∀ (r : Int64) (u : T) (H1 : Heap) (locs1 : List Loc), post r u → va_P D gCl (wf u ++ wr) H1 → va_D A (wf u ++ wr) → va_S A s.heap H1 locs1 → W p l e R s m args below meth c H1 locs1 (cells + mc) (slots + ms) Q (F0 m (pc + 3) ls (.long r :: rest))) : W p l e R s m args below meth c H locs cells slots Q (F0 m pc ls st0) :=
  va_calll hr hS (fun q _ h => fr_A hC hD hS q h) (fun q h => fr_A hC hD hS q h) (fun r u t H1 locs1 ht _ hp hB _ hk hS1 => by
    obtain ⟨g1, g2⟩ := fr_join hP hD (fr_A hC hD hS) hk (by rw [← ht]; exact hB.1) hB.2
    exact kk r u H1 locs1 hp g1 g2 hS1)
/-- a call that may throw -/
theorem fx_V (hC : CX own cc nL ret0 D gCl nwG Z Hb A p s m args meth c) (hM : vx_Met l y (ws_ y bytes maxL ret) rm (va_Pc (.ref b :: As) (PcG D gCl nwG Z H (va_A w1 H.size) w1)) Qc XC mc ms (va_A w1 H.size)) (hq : GoodIn lw_all (wsV own index C y (ws_ y bytes maxL ret)))
    (hd : y.cls = C ∧ y.cls ≠ "java/lang/invoke/MethodHandle" ∧ y.cls ≠ "java/lang/invoke/VarHandle" ∧ (parseMethodDescriptor y.desc).map (fun d => d.parameters.length) = some As.length)
    (q0 ci : Nat) {qc : vw_C} {fs : List Value} (hc : gCl[ci]? = some qc) (he : w1[q0]? = some (b, .inr (ci, fs))) (hcn : qc.1 = C)
    (hrm : rm.cells = mc ∧ rm.slots = ms ∧ rm.frames + 1 ≤ R.frames ∧ 8 + (maxL + 11) + rm.locals ≤ R.locals) (hf : cells + mc ≤ R.cells ∧ slots + ms ≤ R.slots)
    (hP : va_P D gCl (w1 ++ wr) H) (hD : va_D A (w1 ++ wr)) (hl : ls.size = nL) (hst : (rest.map fun v => v.category).sum ≤ 8) (hdg : decode cc pc = .ok (.invokevirtual index, 3)) (hstk : st0 = As.reverse ++ .ref b :: rest) :
    vx_Run p l e R s m args below meth c H locs cells slots mc ms (F0 m pc ls st0) rest (Qc (Value.ref b :: As).toArray) XC (va_A w1 H.size) := by
  refine vx_runV ⟨hC.x, hC.b, hC.ml, hC.ow, hC.ts⟩ hM (cwV As.length hC.ts hq rfl hrm.1 hrm.2.1 hd hrm.2.2) ⟨pcG_blind, ?_, ?_⟩ rfl rfl hl hstk (lv_room hst) hdg hf
  · rw [← hcn]
    exact va_recv hC.K.1 (fr_P hP) hc he
  · intro U hU hW
    exact ⟨rfl, fr_Pc hC hP hD U hU hW⟩
theorem fxg_i {post : Int32 → T → Prop} {px : SX → Prop} {nm : String} {wx : SX → va_W} (hC : CX own cc nL ret0 D gCl nwG Z Hb A p s m args meth c) (hr : vx_Run p l e R s m args below meth c H locs cells slots mc ms (F0 m pc ls st0) rest (va_Qi post (BW D gCl (va_A w1 H.size) wf) (va_A w1 H.size) a) (vx_X px (fun E u t => E = nm ∧ BW D gCl (va_A w1 H.size) wx u t) (va_A w1 H.size)) (va_A w1 H.size)) (hP : va_P D gCl (w1 ++ wr) H) (hD : va_D A (w1 ++ wr)) (hS : va_S A s.heap H locs)
    (kx : ∀ (ce : Cell) (q9 : Addr) (u : SX) (H1 : Heap) (locs1 : List Loc), px u → va_P D gCl (wx u ++ wr) H1 → va_D A (wx u ++ wr) → va_S A s.heap H1 locs1 → H1[q9]? = some ce → ce.vm = .none → s.vm.findClass nm = some ce.cls → vx_W p l e R s m args below meth c H1 locs1 (cells + mc) (slots + ms) Q (F0 m pc ls rest) q9)
    (kk : ∀ (r : Int32) (u : T) (H1 : Heap) (locs1 : List Loc), post r u → va_P D gCl (wf u ++ wr) H1 → va_D A (wf u ++ wr) → va_S A s.heap H1 locs1 → W p l e R s m args below meth c H1 locs1 (cells + mc) (slots + ms) Q (F0 m (pc + 3) ls (.int r :: rest))) : W p l e R s m args below meth c H locs cells slots Q (F0 m pc ls st0) :=
  vx_calli hr hS (fun q _ h => fr_A hC hD hS q h) (fun q h => fr_A hC hD hS q h) (fun q _ h => fr_A hC hD hS q h)
    (fun E ce q9 u t H1 locs1 ht _ hp hB _ hk hS1 hce hv hcl => by
      obtain ⟨rfl, hB⟩ := hB
      obtain ⟨g1, g2⟩ := fr_join hP hD (fr_A hC hD hS) hk (by rw [← ht]; exact hB.1) hB.2
      exact kx ce q9 u H1 locs1 hp g1 g2 hS1 hce hv hcl)
    (fun r u t H1 locs1 ht _ hp hB _ hk hS1 => by
      obtain ⟨g1, g2⟩ := fr_join hP hD (fr_A hC hD hS) hk (by rw [← ht]; exact hB.1) hB.2
      exact kk r u H1 locs1 hp g1 g2 hS1)
theorem vx_ofG {cl : List vw_C} {nw : List Cond} {rmm : Room} {av : List Value} {w : va_W} (hy : plainName y.cls = true) (hn : (lg_sl av).length ≤ nL)
    (body : ∀ (p : Program) (e : Env) (s : State) (m : MethodId) (below : List Frame) (meth : Method) (c : Code) (ls : Array Slot), CX y.cls cc nL ret D cl nw Z Hb A p s m av.toArray meth c → (∀ x ∈ c.exceptionTable.toList, False) → va_P D cl w s.heap → va_D A w → va_S A s.heap s.heap [] → lv_has ls nL (lv_args 0 av) →
      W p l e rmm s m av.toArray below meth c s.heap [] 0 0 (vx_MQ below Qc XC av.toArray s mc ms A) (F0 m 0 ls [])) : vx_Met l y (ws_ y cc nL ret) rmm (va_Pc av (PcG D cl nw Z Hb A w)) Qc XC mc ms A := by
  refine vx_ofW (cc := cc) (maxL := nL) (ret := ret) hy rfl ?_
  intro p e s m args below meth c s₁ B hml ht hv
  obtain ⟨rfl, hP, hD, hK, hA⟩ := hv
  have hts := atoms_spec (ws := ws_ y cc nL ret) B.pre
  have hl := lv_entry av (n := nL) hn
  rw [lg_entry_eq]
  exact body p e s m below meth c _ ⟨B.exec, B.bytes, hml, findClass_of_methodNamed B.named, fun w h => hts w (List.mem_cons_of_mem _ h), hK, B.returns, B.notSynchronized, hA⟩ ht hP hD va_S.rf hl
end FRW
