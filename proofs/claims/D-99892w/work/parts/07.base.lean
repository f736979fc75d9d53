/-! BASE: pure states, loops, contracts over a whole world -/
set_option maxRecDepth 100000
abbrev MS : Type := (Nat → Nat → Int32) × (Nat → Nat → Int64)
def uI (S : MS) (r k : Nat) (v : Int32) : MS := (fun a => if a = r then upd (S.1 r) k v else S.1 a, S.2)
def uL (S : MS) (r k : Nat) (v : Int64) : MS := (S.1, fun a => if a = r then vp_updL (S.2 r) k v else S.2 a)
def lpn {α : Type} (F : (α → Prop) → α → Prop) : Nat → α → Prop
  | 0 => fun _ => False
  | n + 1 => F (lpn F n)
def lp {α : Type} (F : (α → Prop) → α → Prop) (z : α) : Prop := ∃ n, lpn F n z
theorem lp_ind {α : Type} {F : (α → Prop) → α → Prop} {P : α → Prop} (h : ∀ (K : α → Prop) (z : α), (∀ z', K z' → P z') → F K z → P z) : ∀ z, lp F z → P z := by
  intro z hz
  obtain ⟨n, hz⟩ := hz
  induction n generalizing z with
  | zero => exact hz.elim
  | succ n ih => exact h (lpn F n) z ih hz
/-- a loop by a measure that falls, with an invariant -/
theorem lp_wf {α : Type} {F : (α → Prop) → α → Prop} (I : α → Prop) (μ : α → Nat) (h : ∀ (z : α), I z → ∀ K : α → Prop, (∀ z', I z' → μ z' < μ z → K z') → F K z) (z : α) (hz : I z) : lp F z := by
  have key : ∀ (n : Nat) (z : α), μ z < n → I z → lpn F n z := by
    intro n
    induction n with
    | zero => intro z h1; exact absurd h1 (Nat.not_lt_zero _)
    | succ n ih => intro z h1 h2; exact h z h2 (lpn F n) (fun z' h3 h4 => ih z' (by omega) h3)
  exact ⟨μ z + 1, key _ z (Nat.lt_succ_self _) hz⟩
/-- a loop that runs through f 0, f 1, .., f N and leaves there -/
theorem lp_up {α : Type} {F : (α → Prop) → α → Prop} (N : Nat) (f : Nat → α) {z : α} (hz : z = f 0) (h : ∀ i, i < N → ∀ K : α → Prop, K (f (i + 1)) → F K (f i)) (hl : ∀ K : α → Prop, F K (f N)) : lp F z := by
  subst hz
  have key : ∀ (n i : Nat), i ≤ N → N - i < n → lpn F n (f i) := by
    intro n
    induction n with
    | zero => intro i _ h1; exact absurd h1 (Nat.not_lt_zero _)
    | succ n ih =>
      intro i h1 h2
      rcases Nat.lt_or_ge i N with q | q
      · exact h i q (lpn F n) (ih (i + 1) q (by omega))
      · have e : i = N := by omega
        subst e
        exact hl (lpn F n)
  exact ⟨N + 1, key (N + 1) 0 (Nat.zero_le _) (by omega)⟩
/-- words of nest mates and of abstract methods -/
def nwK : Cond → Bool
  | .fieldLinkNest _ _ _ _ _ _ => true
  | .methodLinkNest _ _ _ _ => true
  | .declares _ => true
  | .arrayOver (.object _) => true
  | _ => false
theorem nw_same {w : Cond} (h : nwK w = true) {u U : State} (hv : u.vm = U.vm) (hz : va_Nw w u) : va_Nw w U := by
  cases w with
  | fieldLinkNest a i b n d h => exact va_Nw.same rfl hv hz
  | methodLinkNest a i x h => exact va_Nw.same rfl hv hz
  | declares x => exact va_Nw.same rfl hv hz
  | arrayOver t =>
    cases t with
    | object C => exact va_AO.moved (by rw [hv]; exact Vm.Alike.refl U.vm) hz
    | _ => cases h
  | _ => cases h
theorem nw_use {w : Cond} (h : nwK w = true) {U : State} {args : Array Value} (hz : va_Nw w U) : w.before args U = true := by
  cases w with
  | fieldLinkNest a i b n d h => exact va_Nw.use rfl hz
  | methodLinkNest a i x h => exact va_Nw.use rfl hz
  | declares x => exact va_Nw.use rfl hz
  | arrayOver t =>
    cases t with
    | object C => exact va_AO.use hz
    | _ => cases h
  | _ => cases h
theorem nw_moved {w : Cond} (h : nwK w = true) {s U : State} (hW : s.WarmedH U.vm) (hz : va_Nw w s) : va_Nw w U := by
  cases w with
  | fieldLinkNest a i b n d h => exact va_Nw.warmF hW hz
  | methodLinkNest a i x h => exact va_Nw.warmM hW hz
  | declares x => exact va_Nw.warmD hW hz
  | arrayOver t =>
    cases t with
    | object C => exact va_AO.moved hW.alike hz
    | _ => cases h
  | _ => cases h
abbrev tysG (D : va_G) : List (ClassId × FieldType) := [(D.1 100, .int), (D.1 101, .long), (D.1 102, .byte), (D.1 103, .char), (D.1 104, .object "SeanceStreet$Person"), (D.1 105, .object "SeanceStreet$Ghost"), (D.1 106, .object "SeanceStreet$Street")]
/-- what is steady through a run: any predicate of the tables -/
def Zok (Z : State → Prop) : Prop := (∀ s U : State, s.WarmedH U.vm → Z s → Z U) ∧ ∀ s U : State, s.vm = U.vm → Z s → Z U
def KG (D : va_G) (cl : List vw_C) (nw : List Cond) (Z : State → Prop) (U : State) : Prop := va_K D cl (tysG D) U ∧ (∀ w ∈ nw, nwK w = true ∧ va_Nw w U) ∧ Zok Z ∧ Z U
theorem KG.moved {D : va_G} {cl : List vw_C} {nw : List Cond} {Z : State → Prop} {s U : State} (hW : s.WarmedH U.vm) (h : KG D cl nw Z s) : KG D cl nw Z U :=
  ⟨va_K.moved hW.alike h.1, fun w hw => ⟨(h.2.1 w hw).1, nw_moved (h.2.1 w hw).1 hW (h.2.1 w hw).2⟩, h.2.2.1, h.2.2.1.1 s U hW h.2.2.2⟩
theorem KG.use {D : va_G} {cl : List vw_C} {nw : List Cond} {Z : State → Prop} {s : State} (h : KG D cl nw Z s) (i : Nat) {w : Cond} (hi : nw[i]? = some w) : va_Nw w s := (h.2.1 w (List.mem_of_getElem? hi)).2
theorem KG.word {D : va_G} {cl : List vw_C} {nw : List Cond} {Z : State → Prop} {s : State} (h : KG D cl nw Z s) {args : Array Value} (i : Nat) {w : Cond} (hi : nw[i]? = some w) : w.before args s = true :=
  nw_use (h.2.1 w (List.mem_of_getElem? hi)).1 (h.use i hi)
/-- outside A the heap is as Hb -/
def AgB (A : Nat → Prop) (Hb H : Heap) : Prop := ∀ q : Nat, q < Hb.size → ¬ A q → H[q]? = Hb[q]?
theorem AgB.on {A : Nat → Prop} {Hb H0 H : Heap} {locs : List Loc} (h : AgB A Hb H0) (hA : ∀ q : Nat, H0.size ≤ q → A q) (hS : va_S A H0 H locs) : AgB A Hb H := fun q h1 h2 => by
  rw [← h q h1 h2]
  exact hS.2.1 q (Nat.not_le.mp fun z => h2 (hA q z)) h2
def PcG (D : va_G) (cl : List vw_C) (nw : List Cond) (Z : State → Prop) (Hb : Heap) (A : Nat → Prop) (w : va_W) (U : State) : Prop := va_P D cl w U.heap ∧ va_D A w ∧ KG D cl nw Z U ∧ (∀ q : Nat, U.heap.size ≤ q → A q) ∧ AgB A Hb U.heap
theorem pcG_blind {D : va_G} {cl : List vw_C} {nw : List Cond} {Z : State → Prop} {Hb : Heap} {A : Nat → Prop} {w : va_W} {av : List Value} : FrameBlind (va_Pc av (PcG D cl nw Z Hb A w)) := by
  intro a U g mk q
  obtain ⟨q0, qP, qD, qK, qA⟩ := q
  exact ⟨q0, qP, qD, ⟨va_K.moved (u := U) (U := U.calling g mk a) (Vm.Alike.refl U.vm) qK.1, fun w hw => ⟨(qK.2.1 w hw).1, nw_same (u := U) (U := U.calling g mk a) (qK.2.1 w hw).1 rfl (qK.2.1 w hw).2⟩, qK.2.2.1, qK.2.2.1.2 U (U.calling g mk a) rfl qK.2.2.2⟩, qA⟩
/-- a world by a state -/
def BW {T : Type} (D : va_G) (cl : List vw_C) (A : Nat → Prop) (wf : T → va_W) (u : T) (t : State) : Prop := va_P D cl (wf u) t.heap ∧ va_D A (wf u)
/-- what holds all through a method's walk -/
def CX (own : String) (cc : ByteArray) (nL : Nat) (ret : Option FieldType) (D : va_G) (cl : List vw_C) (nw : List Cond) (Z : State → Prop) (Hb : Heap) (A : Nat → Prop) (p : Program) (s : State) (m : MethodId) (args : Array Value) (meth : Method) (c : Code) : Prop :=
  p.tables.exec = Jvm.exec ∧ c.code = cc ∧ c.maxLocals = nL ∧ s.vm.findClass own = some m.cls ∧ (∀ w ∈ lw_all, w.before args s = true) ∧ KG D cl nw Z s ∧ meth.sig.returnType = ret ∧ meth.locks = false ∧ (∀ q : Nat, s.heap.size ≤ q → A q) ∧ AgB A Hb s.heap
section BCX
variable {own : String} {cc : ByteArray} {nL : Nat} {ret : Option FieldType} {D : va_G} {cl : List vw_C} {nw : List Cond} {Z : State → Prop} {Hb : Heap} {A : Nat → Prop} {p : Program} {s : State} {m : MethodId} {args : Array Value} {meth : Method} {c : Code}
theorem CX.x (h : CX own cc nL ret D cl nw Z Hb A p s m args meth c) : p.tables.exec = Jvm.exec := h.1
theorem CX.b (h : CX own cc nL ret D cl nw Z Hb A p s m args meth c) : c.code = cc := h.2.1
theorem CX.ml (h : CX own cc nL ret D cl nw Z Hb A p s m args meth c) : c.maxLocals = nL := h.2.2.1
theorem CX.ow (h : CX own cc nL ret D cl nw Z Hb A p s m args meth c) : s.vm.findClass own = some m.cls := h.2.2.2.1
theorem CX.ts (h : CX own cc nL ret D cl nw Z Hb A p s m args meth c) : ∀ w ∈ lw_all, w.before args s = true := h.2.2.2.2.1
theorem CX.K (h : CX own cc nL ret D cl nw Z Hb A p s m args meth c) : KG D cl nw Z s := h.2.2.2.2.2.1
theorem CX.r (h : CX own cc nL ret D cl nw Z Hb A p s m args meth c) : meth.sig.returnType = ret := h.2.2.2.2.2.2.1
theorem CX.lk (h : CX own cc nL ret D cl nw Z Hb A p s m args meth c) : meth.locks = false := h.2.2.2.2.2.2.2.1
theorem CX.aA (h : CX own cc nL ret D cl nw Z Hb A p s m args meth c) : ∀ q : Nat, s.heap.size ≤ q → A q := h.2.2.2.2.2.2.2.2.1
theorem CX.ag (h : CX own cc nL ret D cl nw Z Hb A p s m args meth c) : AgB A Hb s.heap := h.2.2.2.2.2.2.2.2.2
end BCX
theorem Met.ofG {l : Launch} {y : MethodName} {cc : ByteArray} {nL : Nat} {ret : Option FieldType} {rm : Room} {av : List Value} {D : va_G} {cl : List vw_C} {nw : List Cond} {Z : State → Prop} {Hb : Heap} {A : Nat → Prop} {w : va_W} {Qc : Array Value → State → Outcome → State → Prop} {mc ms : Nat} (hy : plainName y.cls = true) (hn : (lg_sl av).length ≤ nL)
    (body : ∀ (p : Program) (e : Env) (s : State) (m : MethodId) (below : List Frame) (meth : Method) (c : Code) (ls : Array Slot), CX y.cls cc nL ret D cl nw Z Hb A p s m av.toArray meth c → meth.name = y.name → va_P D cl w s.heap → va_D A w → va_S A s.heap s.heap [] → lv_has ls nL (lv_args 0 av) →
      W p l e rm s m av.toArray below meth c s.heap [] 0 0 (MQ below Qc av.toArray s mc ms A) (F0 m 0 ls [])) : Met l y (ws_ y cc nL ret) rm (va_Pc av (PcG D cl nw Z Hb A w)) Qc mc ms A := by
  refine Met.ofW (cc := cc) (maxL := nL) (ret := ret) hy rfl ?_
  intro p e s m args below meth c s₁ B hml hv
  obtain ⟨rfl, hP, hD, hK, hA⟩ := hv
  have hts := atoms_spec (ws := ws_ y cc nL ret) B.pre
  have hl := lv_entry av (n := nL) hn
  rw [lg_entry_eq]
  exact body p e s m below meth c _ ⟨B.exec, B.bytes, hml, findClass_of_methodNamed B.named, fun w h => hts w (List.mem_cons_of_mem _ h), hK, B.returns, B.notSynchronized, hA⟩ (name_of_methodNamed B.named B.method).1 hP hD va_S.rf hl
section BRUN
variable {p : Program} {l : Launch} {e : Env} {R : Room} {s : State} {m : MethodId} {args : Array Value} {below : List Frame} {meth : Method} {c : Code} {H : Heap} {locs : List Loc} {cells slots : Nat} {Q : State → Prop}
variable {own C : String} {cc bytes : ByteArray} {nL maxL index mc ms pc : Nat} {ret0 ret : Option FieldType} {D : va_G} {cl : List vw_C} {nw : List Cond} {Z : State → Prop} {Hb : Heap} {A : Nat → Prop} {y : MethodName} {rm : Room} {b : Addr} {As rest st0 : List Value} {w : va_W} {Qc : Array Value → State → Outcome → State → Prop} {ls : Array Slot}
theorem run_V (hC : CX own cc nL ret0 D cl nw Z Hb A p s m args meth c) (hM : Met l y (ws_ y bytes maxL ret) rm (va_Pc (.ref b :: As) (PcG D cl nw Z Hb A w)) Qc mc ms A) (hq : GoodIn lw_all (wsV own index C y (ws_ y bytes maxL ret)))
    (hd : y.cls = C ∧ y.cls ≠ "java/lang/invoke/MethodHandle" ∧ y.cls ≠ "java/lang/invoke/VarHandle" ∧ (parseMethodDescriptor y.desc).map (fun d => d.parameters.length) = some As.length)
    (q0 ci : Nat) {qc : vw_C} {fs : List Value} (hc : cl[ci]? = some qc) (he : w[q0]? = some (b, .inr (ci, fs))) (hcn : qc.1 = C)
    (hrm : rm.cells = mc ∧ rm.slots = ms ∧ rm.frames + 1 ≤ R.frames ∧ 8 + (maxL + 11) + rm.locals ≤ R.locals) (hf : cells + mc ≤ R.cells ∧ slots + ms ≤ R.slots)
    (hP : va_P D cl w H) (hD : va_D A w) (hS : va_S A s.heap H locs) (hl : ls.size = nL) (hst : (rest.map fun v => v.category).sum ≤ 8) (hdg : decode cc pc = .ok (.invokevirtual index, 3)) (hstk : st0 = As.reverse ++ .ref b :: rest) :
    va_Run p l e R s m args below meth c H locs cells slots mc ms (F0 m pc ls st0) rest (Qc (Value.ref b :: As).toArray) A := by
  refine va_runV ⟨hC.x, hC.b, hC.ml, hC.ow, hC.ts⟩ hM (cwV As.length hC.ts hq rfl hrm.1 hrm.2.1 hd hrm.2.2) ⟨pcG_blind, ?_, ?_⟩ rfl rfl hl hstk (lv_room hst) hdg hf
  · rw [← hcn]
    exact va_recv hC.K.1 hP hc he
  · intro U hU hW
    exact ⟨rfl, by rw [hU]; exact hP, hD, hC.K.moved hW, fun q hq => hC.aA q (Nat.le_trans hS.1 (by rw [← hU]; exact hq)), by rw [hU]; exact hC.ag.on hC.aA hS⟩
theorem run_S (hC : CX own cc nL ret0 D cl nw Z Hb A p s m args meth c) (hM : Met l y (ws_ y bytes maxL ret) rm (va_Pc As (PcG D cl nw Z Hb A w)) Qc mc ms A) (hq : GoodIn lw_all (va_wsS own index y (ws_ y bytes maxL ret)))
    (hd : y.cls ≠ "java/lang/invoke/MethodHandle" ∧ y.cls ≠ "java/lang/invoke/VarHandle" ∧ (parseMethodDescriptor y.desc).map (fun d => d.parameters.length) = some As.length)
    (hrm : rm.cells = mc ∧ rm.slots = ms ∧ rm.frames + 1 ≤ R.frames ∧ 8 + (maxL + 11) + rm.locals ≤ R.locals) (hf : cells + mc ≤ R.cells ∧ slots + ms ≤ R.slots)
    (hP : va_P D cl w H) (hD : va_D A w) (hS : va_S A s.heap H locs) (hl : ls.size = nL) (hst : (rest.map fun v => v.category).sum ≤ 8) (hdg : decode cc pc = .ok (.invokestatic index, 3)) (hstk : st0 = As.reverse ++ rest) :
    va_Run p l e R s m args below meth c H locs cells slots mc ms (F0 m pc ls st0) rest (Qc As.toArray) A := by
  refine va_runS ⟨hC.x, hC.b, hC.ml, hC.ow, hC.ts⟩ hM (va_cwS As.length hC.ts hq rfl hrm.1 hrm.2.1 hd hrm.2.2) ⟨pcG_blind, ?_⟩ rfl rfl hl hstk (lv_room hst) hdg hf
  intro U hU hW
  exact ⟨rfl, by rw [hU]; exact hP, hD, hC.K.moved hW, fun q hq => hC.aA q (Nat.le_trans hS.1 (by rw [← hU]; exact hq)), by rw [hU]; exact hC.ag.on hC.aA hS⟩
variable {T : Type} {wf : T → va_W} {a : Array Value}
theorem go_i {post : Int32 → T → Prop} (hr : va_Run p l e R s m args below meth c H locs cells slots mc ms (F0 m pc ls st0) rest (va_Qi post (BW D cl A wf) A a) A) (hS : va_S A s.heap H locs)
    (kk : ∀ (r : Int32) (u : T) (H1 : Heap) (locs1 : List Loc), post r u → va_P D cl (wf u) H1 → va_D A (wf u) → va_S A s.heap H1 locs1 → W p l e R s m args below meth c H1 locs1 (cells + mc) (slots + ms) Q (F0 m (pc + 3) ls (.int r :: rest))) : W p l e R s m args below meth c H locs cells slots Q (F0 m pc ls st0) :=
  va_calli hr hS (fun _ _ h => h) (fun _ h => h) (fun r u t H1 locs1 ht _ hp hB _ _ hS1 => kk r u H1 locs1 hp (by rw [← ht]; exact hB.1) hB.2 hS1)
theorem go_l {post : Int64 → T → Prop} (hr : va_Run p l e R s m args below meth c H locs cells slots mc ms (F0 m pc ls st0) rest (va_Ql post (BW D cl A wf) A a) A) (hS : va_S A s.heap H locs)
    (kk : ∀ (r : Int64) (u : T) (H1 : Heap) (locs1 : List Loc), post r u → va_P D cl (wf u) H1 → va_D A (wf u) → va_S A s.heap H1 locs1 → W p l e R s m args below meth c H1 locs1 (cells + mc) (slots + ms) Q (F0 m (pc + 3) ls (.long r :: rest))) : W p l e R s m args below meth c H locs cells slots Q (F0 m pc ls st0) :=
  va_calll hr hS (fun _ _ h => h) (fun _ h => h) (fun r u t H1 locs1 ht _ hp hB _ _ hS1 => kk r u H1 locs1 hp (by rw [← ht]; exact hB.1) hB.2 hS1)
theorem go_v {post : T → Prop} (hr : va_Run p l e R s m args below meth c H locs cells slots mc ms (F0 m pc ls st0) rest (va_Qv post (BW D cl A wf) A a) A) (hS : va_S A s.heap H locs)
    (kk : ∀ (u : T) (H1 : Heap) (locs1 : List Loc), post u → va_P D cl (wf u) H1 → va_D A (wf u) → va_S A s.heap H1 locs1 → W p l e R s m args below meth c H1 locs1 (cells + mc) (slots + ms) Q (F0 m (pc + 3) ls rest)) : W p l e R s m args below meth c H locs cells slots Q (F0 m pc ls st0) :=
  va_callv hr hS (fun _ _ h => h) (fun _ h => h) (fun u t H1 locs1 ht _ hp hB _ _ hS1 => kk u H1 locs1 hp (by rw [← ht]; exact hB.1) hB.2 hS1)
theorem rt_i {post : Int32 → T → Prop} {v : Int32} {u : T} (hC : CX own cc nL (some .int) D cl nw Z Hb A p s m args meth c) (hw : post v u) (hP : va_P D cl (wf u) H) (hD : va_D A (wf u)) (hS : va_S A s.heap H locs) (hdg : decode cc pc = .ok (.ireturn, 1)) :
    W p l e R s m args below meth c H locs cells slots (MQ below (va_Qi post (BW D cl A wf) A) args s cells slots A) (F0 m pc ls [.int v]) :=
  W.iret (v := v) hC.x hC.b hC.r (fun t ht _ => ⟨⟨v, u, rfl, hw, by rw [ht]; exact hP, hD⟩, hS.F ht⟩) hS.2.2 hdg hC.lk
theorem rt_z {post : Int32 → T → Prop} {v : Int32} {u : T} (hC : CX own cc nL (some .boolean) D cl nw Z Hb A p s m args meth c) (hv : v = 0 ∨ v = 1) (hw : post v u) (hP : va_P D cl (wf u) H) (hD : va_D A (wf u)) (hS : va_S A s.heap H locs) (hdg : decode cc pc = .ok (.ireturn, 1)) :
    W p l e R s m args below meth c H locs cells slots (MQ below (va_Qi post (BW D cl A wf) A) args s cells slots A) (F0 m pc ls [.int v]) :=
  W.zret (v := v) hC.x hC.b hC.r (by rcases hv with rfl | rfl <;> rfl) (fun t ht _ => ⟨⟨v, u, rfl, hw, by rw [ht]; exact hP, hD⟩, hS.F ht⟩) hS.2.2 hdg hC.lk
theorem rt_l {post : Int64 → T → Prop} {v : Int64} {u : T} (hC : CX own cc nL (some .long) D cl nw Z Hb A p s m args meth c) (hw : post v u) (hP : va_P D cl (wf u) H) (hD : va_D A (wf u)) (hS : va_S A s.heap H locs) (hdg : decode cc pc = .ok (.lreturn, 1)) :
    W p l e R s m args below meth c H locs cells slots (MQ below (va_Ql post (BW D cl A wf) A) args s cells slots A) (F0 m pc ls [.long v]) :=
  W.lret (v := v) hC.x hC.b hC.r (fun t ht _ => ⟨⟨v, u, rfl, hw, by rw [ht]; exact hP, hD⟩, hS.F ht⟩) hS.2.2 hdg hC.lk
theorem rt_v {post : T → Prop} {u : T} (hC : CX own cc nL none D cl nw Z Hb A p s m args meth c) (hw : post u) (hP : va_P D cl (wf u) H) (hD : va_D A (wf u)) (hS : va_S A s.heap H locs) (hdg : decode cc pc = .ok (.return_, 1)) :
    W p l e R s m args below meth c H locs cells slots (MQ below (va_Qv post (BW D cl A wf) A) args s cells slots A) (F0 m pc ls []) :=
  W.vret hC.x hC.b hC.r (fun t ht _ => ⟨⟨u, rfl, hw, by rw [ht]; exact hP, hD⟩, hS.F ht⟩) hS.2.2 hdg hC.lk
end BRUN
