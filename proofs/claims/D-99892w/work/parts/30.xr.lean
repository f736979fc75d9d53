set_option maxRecDepth 100000
/-! calls that may throw; what is pending; a person, a dead more -/
section XRUN
variable {p : Program} {l : Launch} {e : Env} {R : Room} {s : State} {m : MethodId} {args : Array Value} {below : List Frame} {meth : Method} {c : Code} {H : Heap} {locs : List Loc} {cells slots : Nat} {Q : State → Prop}
variable {own C : String} {cc bytes : ByteArray} {nL maxL index mc ms pc MC MS : Nat} {ret0 ret : Option FieldType} {D : va_G} {Z : State → Prop} {Hb : Heap} {A : Nat → Prop} {y : MethodName} {rm : Room} {b : Addr} {As rest st0 : List Value} {w : va_W} {Qc Qc0 : Array Value → State → Outcome → State → Prop} {XC : Addr → String → State → State → Prop} {ls : Array Slot} {ad : Nat → Nat} {rf : Nat → Value} {tw : Option TD} {τ : TD} {F : va_W} {S : XS}
/-- what is there when Refused is thrown -/
def XB (D : va_G) (ad : Nat → Nat) (rf : Nat → Value) (tw : Option TD) (A : Nat → Prop) : Addr → String → (CS × Option Nat × Option Nat) → State → Prop := fun q E u t => q = ad 15 ∧ E = RX3 ∧ va_P D gCl (wC D ad (u.2.1, u.2.2, rf) tw u.1) t.heap ∧ va_D A (wC D ad (u.2.1, u.2.2, rf) tw u.1)
theorem tx_ofG {cl : List vw_C} {nw : List Cond} {rmm : Room} {av : List Value} (hy : plainName y.cls = true) (hn : (lg_sl av).length ≤ nL)
    (body : ∀ (p : Program) (e : Env) (s : State) (m : MethodId) (below : List Frame) (meth : Method) (c : Code) (ls : Array Slot), CX y.cls cc nL ret D cl nw Z Hb A p s m av.toArray meth c → (∀ x ∈ c.exceptionTable.toList, False) → va_P D cl w s.heap → va_D A w → va_S A s.heap s.heap [] → lv_has ls nL (lv_args 0 av) →
      W p l e rmm s m av.toArray below meth c s.heap [] 0 0 (tx_MQ below Qc XC av.toArray s mc ms A) (F0 m 0 ls [])) : tx_Met l y (ws_ y cc nL ret) rmm (va_Pc av (PcG D cl nw Z Hb A w)) Qc XC mc ms A := by
  refine tx_ofW (cc := cc) (maxL := nL) (ret := ret) hy rfl ?_
  intro p e s m args below meth c s₁ B hml ht hv
  obtain ⟨rfl, hP, hD, hK, hA⟩ := hv
  have hts := atoms_spec (ws := ws_ y cc nL ret) B.pre
  have hl := lv_entry av (n := nL) hn
  rw [lg_entry_eq]
  exact body p e s m below meth c _ ⟨B.exec, B.bytes, hml, findClass_of_methodNamed B.named, fun w h => hts w (List.mem_cons_of_mem _ h), hK, B.returns, B.notSynchronized, hA⟩ ht hP hD va_S.rf hl
theorem run_VX (hC : CX own cc nL ret0 D gCl nwG Z Hb A p s m args meth c) (hM : tx_Met l y (ws_ y bytes maxL ret) rm (va_Pc (.ref b :: As) (PcG D gCl nwG Z Hb A w)) Qc XC mc ms A) (hq : GoodIn lw_all (wsV own index C y (ws_ y bytes maxL ret)))
    (hd : y.cls = C ∧ y.cls ≠ "java/lang/invoke/MethodHandle" ∧ y.cls ≠ "java/lang/invoke/VarHandle" ∧ (parseMethodDescriptor y.desc).map (fun d => d.parameters.length) = some As.length)
    (q0 ci : Nat) {qc : vw_C} {fs : List Value} (hc : gCl[ci]? = some qc) (he : w[q0]? = some (b, .inr (ci, fs))) (hcn : qc.1 = C)
    (hrm : rm.cells = mc ∧ rm.slots = ms ∧ rm.frames + 1 ≤ R.frames ∧ 8 + (maxL + 11) + rm.locals ≤ R.locals) (hf : cells + mc ≤ R.cells ∧ slots + ms ≤ R.slots)
    (hP : va_P D gCl w H) (hD : va_D A w) (hS : va_S A s.heap H locs) (hl : ls.size = nL) (hst : (rest.map fun v => v.category).sum ≤ 8) (hdg : decode cc pc = .ok (.invokevirtual index, 3)) (hstk : st0 = As.reverse ++ .ref b :: rest) :
    tx_Run p l e R s m args below meth c H locs cells slots mc ms (F0 m pc ls st0) rest (Qc (Value.ref b :: As).toArray) XC A := by
  refine tx_runV ⟨hC.x, hC.b, hC.ml, hC.ow, hC.ts⟩ hM (cwV As.length hC.ts hq rfl hrm.1 hrm.2.1 hd hrm.2.2) ⟨pcG_blind, ?_, ?_⟩ rfl rfl hl hstk (lv_room hst) hdg hf
  · rw [← hcn]
    exact va_recv hC.K.1 hP hc he
  · intro U hU hW
    exact ⟨rfl, by rw [hU]; exact hP, hD, hC.K.moved hW, fun q hq => hC.aA q (Nat.le_trans hS.1 (by rw [← hU]; exact hq)), by rw [hU]; exact hC.ag.on hC.aA hS⟩
variable {T : Type} {wf : T → va_W} {a : Array Value} {px : CS × Option Nat × Option Nat → Prop}
theorem gx_kx (hC : CX own cc nL ret0 D gCl nwG Z Hb A p s m args meth c) (hout : ∀ x ∈ c.exceptionTable.toList, False) (hmc : cells + mc ≤ MC) (hms : slots + ms ≤ MS) :
    ∀ (E : String) (ce : Cell) (q9 : Addr) (u : CS × Option Nat × Option Nat) (t : State) (H1 : Heap) (locs1 : List Loc), t.heap = H1 → s.vm.Alike t.vm → px u → XB D ad rf tw A q9 E u t → H.size ≤ H1.size → (∀ q : Nat, q < H.size → ¬ A q → H1[q]? = H[q]?) → va_S A s.heap H1 locs1 → H1[q9]? = some ce → ce.vm = .none → s.vm.findClass E = some ce.cls → vx_W p l e R s m args below meth c H1 locs1 (cells + mc) (slots + ms) (tx_MQ below Qc0 (tx_X px (XB D ad rf tw A) A) args s MC MS A) (F0 m pc ls rest) q9 := by
  intro E ce q9 u t H1 locs1 ht _ hpx hB _ _ hS1 hce hv hcl
  refine tx_out (fun x hx => (hout x hx).elim) hC.lk hce hv hcl (fun t' ht' _ => ⟨u, hpx, ⟨hB.1, hB.2.1, ?_, hB.2.2.2⟩, hS1.F ht'⟩) hS1.2.2 hmc hms
  rw [ht', ← ht]
  exact hB.2.2.1
theorem gx_v {post : T → Prop} (hC : CX own cc nL ret0 D gCl nwG Z Hb A p s m args meth c) (hout : ∀ x ∈ c.exceptionTable.toList, False) (hr : tx_Run p l e R s m args below meth c H locs cells slots mc ms (F0 m pc ls st0) rest (va_Qv post (BW D gCl A wf) A a) (tx_X px (XB D ad rf tw A) A) A) (hmc : cells + mc ≤ MC) (hms : slots + ms ≤ MS) (hS : va_S A s.heap H locs)
    (kk : ∀ (u : T) (H1 : Heap) (locs1 : List Loc), post u → va_P D gCl (wf u) H1 → va_D A (wf u) → va_S A s.heap H1 locs1 → W p l e R s m args below meth c H1 locs1 (cells + mc) (slots + ms) (tx_MQ below Qc0 (tx_X px (XB D ad rf tw A) A) args s MC MS A) (F0 m (pc + 3) ls rest)) : W p l e R s m args below meth c H locs cells slots (tx_MQ below Qc0 (tx_X px (XB D ad rf tw A) A) args s MC MS A) (F0 m pc ls st0) :=
  tx_callv hr hS (fun _ _ h => h) (fun _ h => h) (fun _ _ h => h) (gx_kx hC hout hmc hms) (fun u t H1 locs1 ht _ hp hB _ _ hS1 => kk u H1 locs1 hp (by rw [← ht]; exact hB.1) hB.2 hS1)
theorem gx_i {post : Int32 → T → Prop} (hC : CX own cc nL ret0 D gCl nwG Z Hb A p s m args meth c) (hout : ∀ x ∈ c.exceptionTable.toList, False) (hr : tx_Run p l e R s m args below meth c H locs cells slots mc ms (F0 m pc ls st0) rest (va_Qi post (BW D gCl A wf) A a) (tx_X px (XB D ad rf tw A) A) A) (hmc : cells + mc ≤ MC) (hms : slots + ms ≤ MS) (hS : va_S A s.heap H locs)
    (kk : ∀ (r : Int32) (u : T) (H1 : Heap) (locs1 : List Loc), post r u → va_P D gCl (wf u) H1 → va_D A (wf u) → va_S A s.heap H1 locs1 → W p l e R s m args below meth c H1 locs1 (cells + mc) (slots + ms) (tx_MQ below Qc0 (tx_X px (XB D ad rf tw A) A) args s MC MS A) (F0 m (pc + 3) ls (.int r :: rest))) : W p l e R s m args below meth c H locs cells slots (tx_MQ below Qc0 (tx_X px (XB D ad rf tw A) A) args s MC MS A) (F0 m pc ls st0) :=
  tx_calli hr hS (fun _ _ h => h) (fun _ h => h) (fun _ _ h => h) (gx_kx hC hout hmc hms) (fun r u t H1 locs1 ht _ hp hB _ _ hS1 => kk r u H1 locs1 hp (by rw [← ht]; exact hB.1) hB.2 hS1)
/-- an answer that is a reference -/
theorem gx_r {post : Nat → T → Prop} (hC : CX own cc nL ret0 D gCl nwG Z Hb A p s m args meth c) (hout : ∀ x ∈ c.exceptionTable.toList, False) (hr : tx_Run p l e R s m args below meth c H locs cells slots mc ms (F0 m pc ls st0) rest (va_Qr (fun _ => True) (fun (u : T) x t => post x u ∧ BW D gCl A wf u t) A a) (tx_X px (XB D ad rf tw A) A) A) (hmc : cells + mc ≤ MC) (hms : slots + ms ≤ MS) (hS : va_S A s.heap H locs)
    (kk : ∀ (r : Nat) (u : T) (H1 : Heap) (locs1 : List Loc), post r u → va_P D gCl (wf u) H1 → va_D A (wf u) → va_S A s.heap H1 locs1 → W p l e R s m args below meth c H1 locs1 (cells + mc) (slots + ms) (tx_MQ below Qc0 (tx_X px (XB D ad rf tw A) A) args s MC MS A) (F0 m (pc + 3) ls (.ref r :: rest))) : W p l e R s m args below meth c H locs cells slots (tx_MQ below Qc0 (tx_X px (XB D ad rf tw A) A) args s MC MS A) (F0 m pc ls st0) :=
  tx_callr hr hS (fun _ _ h => h) (fun _ h => h) (fun _ _ h => h) (gx_kx hC hout hmc hms) (fun u ra t H1 locs1 ht _ _ hB _ _ hS1 => kk ra u H1 locs1 hB.1 (by rw [← ht]; exact hB.2.1) hB.2.2 hS1)
theorem gx_R {wf : Nat → T → va_W} {post : Nat → T → Prop} (hC : CX own cc nL ret0 D gCl nwG Z Hb A p s m args meth c) (hout : ∀ x ∈ c.exceptionTable.toList, False) (hr : tx_Run p l e R s m args below meth c H locs cells slots mc ms (F0 m pc ls st0) rest (va_Qr (fun _ => True) (fun (u : T) x t => post x u ∧ BW D gCl A (wf x) u t) A a) (tx_X px (XB D ad rf tw A) A) A) (hmc : cells + mc ≤ MC) (hms : slots + ms ≤ MS) (hS : va_S A s.heap H locs)
    (kk : ∀ (r : Nat) (u : T) (H1 : Heap) (locs1 : List Loc), post r u → va_P D gCl (wf r u) H1 → va_D A (wf r u) → va_S A s.heap H1 locs1 → W p l e R s m args below meth c H1 locs1 (cells + mc) (slots + ms) (tx_MQ below Qc0 (tx_X px (XB D ad rf tw A) A) args s MC MS A) (F0 m (pc + 3) ls (.ref r :: rest))) : W p l e R s m args below meth c H locs cells slots (tx_MQ below Qc0 (tx_X px (XB D ad rf tw A) A) args s MC MS A) (F0 m pc ls st0) :=
  tx_callr hr hS (fun _ _ h => h) (fun _ h => h) (fun _ _ h => h) (gx_kx hC hout hmc hms) (fun u ra t H1 locs1 ht _ _ hB _ _ hS1 => kk ra u H1 locs1 hB.1 (by rw [← ht]; exact hB.2.1) hB.2.2 hS1)
theorem rx_r {post : Nat → T → Prop} {r : Nat} {u : T} {rt : FieldType} (hC : CX own cc nL (some rt) D gCl nwG Z Hb A p s m args meth c) (hrt : ∃ n, rt = .object n) (hw : post r u) (hP : va_P D gCl (wf u) H) (hD : va_D A (wf u)) (hS : va_S A s.heap H locs) (hdg : decode cc pc = .ok (.areturn, 1)) :
    W p l e R s m args below meth c H locs cells slots (MQ below (va_Qr (fun _ => True) (fun (u : T) x t => post x u ∧ BW D gCl A wf u t) A) args s cells slots A) (F0 m pc ls [.ref r]) :=
  W.aret (v := .ref r) hC.x hC.b hC.r (Or.inl hrt) (Or.inr ⟨_, rfl⟩) (fun t ht _ => ⟨⟨u, r, rfl, trivial, hw, by rw [ht]; exact hP, hD⟩, hS.F ht⟩) hS.2.2 hdg hC.lk
theorem xc_P (hP : va_P D gCl (wX D ad rf tw F τ S) H) : va_P D gCl (wC D ad (S.2.1, some (τ.1 0), rf) tw S.1) H := idx_P (fun k => F.length + k) (fun k q h => wX_c h) hP
theorem xc_D (hD : va_D A (wX D ad rf tw F τ S)) : va_D A (wC D ad (S.2.1, some (τ.1 0), rf) tw S.1) := idx_D (fun k => F.length + k) (fun k q h => wX_c (D := D) (rf := rf) h) (fun i j _ _ e => by have e : F.length + i = F.length + j := e; omega) hD
theorem gx_throw (hC : CX own cc nL ret0 D gCl nwG Z Hb A p s m args meth c) (hout : ∀ x ∈ c.exceptionTable.toList, False) (hw : px (S.1, S.2.1, some (τ.1 0))) (hP : va_P D gCl (wX D ad rf tw F τ S) H) (hD : va_D A (wX D ad rf tw F τ S)) (hS : va_S A s.heap H locs) (hmc : cells ≤ MC) (hms : slots ≤ MS) (hdg : decode cc pc = .ok (.athrow, 1)) :
    W p l e R s m args below meth c H locs cells slots (tx_MQ below Qc0 (tx_X px (XB D ad rf tw A) A) args s MC MS A) (F0 m pc ls (.ref (ad 15) :: rest)) := by
  refine vx_athrow hC.x hC.b hdg ?_
  obtain ⟨r, hr, cell, g1, g2, g3, -⟩ := hP (F.length + 15) _ (wX_c (xc_f (by omega) rfl))
  refine tx_out (E := RX3) (fun x hx => (hout x hx).elim) hC.lk g1 g3 (by rw [g2]; exact (hC.K.1.1 2 _ gCl_X3).2.1) (fun t ht _ => ⟨(S.1, S.2.1, some (τ.1 0)), hw, ⟨rfl, rfl, ?_, xc_D hD⟩, hS.F ht⟩) hS.2.2 hmc hms
  rw [ht]
  exact xc_P hP
theorem rotb_at {w : va_W} {x : Nat × va_E} : ∀ k q, (w ++ [x])[k]? = some q → (x :: w)[if k = w.length then 0 else k + 1]? = some q := by
  intro k q h
  by_cases e : k = w.length
  · subst e
    rw [if_pos rfl]
    rw [List.getElem?_append_right (Nat.le_refl _), Nat.sub_self] at h
    exact h
  · rw [if_neg e]
    have hk : k < (w ++ [x]).length := (List.getElem?_eq_some_iff.mp h).1
    rw [List.length_append] at hk
    have hk : k < w.length := by have : [x].length = 1 := rfl; omega
    rw [List.getElem?_append_left hk] at h
    exact h
theorem rotb_P {cl : List vw_C} {w : va_W} {x : Nat × va_E} (h : va_P D cl (x :: w) H) : va_P D cl (w ++ [x]) H := idx_P _ rotb_at h
theorem rotb_D {w : va_W} {x : Nat × va_E} (h : va_D A (x :: w)) : va_D A (w ++ [x]) := by
  refine idx_D _ rotb_at (fun i j hi hj e => ?_) h
  by_cases a : i = w.length <;> by_cases b : j = w.length <;> simp only [a, b, if_true, if_false] at e ⊢ <;> omega
theorem wX_cons {x : Nat × va_E} : wX D ad rf tw (x :: F) τ S = x :: wX D ad rf tw F τ S := rfl
/-- new String: its two things join the texts -/
theorem wX_str {a b : Nat} {bs : List Int32} : wX D ad rf tw F τ S ++ [(a, sO b bs false), (b, sB D bs)] = wX D ad rf tw F τ (xL S (S.2.2.2 ++ [(a, b, bs, false)])) := by
  unfold wX
  show _ = F ++ (xc D ad rf tw τ S ++ (xt D τ S ++ plC D (S.2.2.2 ++ [(a, b, bs, false)])))
  rw [pl_app]
  simp only [List.append_assoc]
theorem mX_hash (l : Launch) {i : Nat} {x : SX} {a : Nat} {adK adV : Nat → Nat} (hZ : ∀ U, Z U → zS adK adV A Hb U) (h1 : S.2.2.2[i]? = some x) (h2 : x.1 = a) (h3 : x.2.2.1.length < 1000) (hh : wJ6_hashCode (fun r => r = hB x.2.2.1) x.2.2.1) :
    Met l yJ3_hashCode (ws_ yJ3_hashCode cJ3_hashCode 2 (some .int)) ({ frames := 4, cells := 0, slots := 0, locals := 200 } : Room) (va_Pc [.ref a] (PcG D gCl nwG Z Hb A (wX D ad rf tw F τ S))) (va_Qi (fun r (_ : Unit) => r = hB x.2.2.1) (BW D gCl A (fun _ => wX D ad rf tw F τ (xH S i x))) A) 0 0 A := by
  subst h2
  have h := mJ3_hashCode (D := D) (Z := Z) (Hb := Hb) (A := A) l hZ (wX_p (ad := ad) (rf := rf) (tw := tw) (F := F) (τ := τ) (pl_at (D := D) h1).1) (wX_p (pl_at h1).2) h3 hh
  rw [wX_sp (S' := xH S i x) (pl_set h1) rfl rfl rfl] at h
  exact h
theorem tbP_up {nm a : Nat} {n1 n2 : Int32} {S0 S1 : CS} (hS1 : S1 = sI (sI S0 (1000 + 2 * τ.2.2.1) 1 n1) (1000 + 2 * τ.2.2.1) 2 n2) : tbP (tAP τ a nm) S1 = tbP τ S0 ++ [(a, .inr (7, [.ref nm, .int n1, .int n2]))] := by
  subst hS1
  unfold tbP
  show (List.range (τ.2.2.1 + 1)).map _ = _
  rw [List.range_succ, List.map_append]
  congr 1
  · apply List.map_congr_left
    intro j hj
    have hj : j < τ.2.2.1 := List.mem_range.mp hj
    have e1 : (tAP τ a nm).1 (10 + j) = τ.1 (10 + j) := if_neg (by omega)
    have e2 : (tAP τ a nm).2.1 (10 + j) = τ.2.1 (10 + j) := if_neg (by omega)
    rw [e1]
    unfold obP sI
    rw [e2, sA_ne (by omega), sA_ne (by omega)]
  · have e1 : (tAP τ a nm).1 (10 + τ.2.2.1) = a := if_pos rfl
    have e2 : (tAP τ a nm).2.1 (10 + τ.2.2.1) = nm := if_pos rfl
    show [((tAP τ a nm).1 (10 + τ.2.2.1), (Sum.inr (7, obP (tAP τ a nm) _ τ.2.2.1) : va_E))] = [_]
    rw [e1]
    unfold obP sI
    rw [e2, sA_eq, sA_eq]
    simp [upd]
theorem tbG_P {nm a : Nat} {n1 n2 : Int32} {S0 S1 : CS} (hS1 : S1 = sI (sI S0 (1000 + 2 * τ.2.2.1) 1 n1) (1000 + 2 * τ.2.2.1) 2 n2) (hp : τ.2.2.1 < 6) : tbG (tAP τ a nm) S1 = tbG τ S0 := by
  subst hS1
  unfold tbG
  show (List.range τ.2.2.2.1).map _ = _
  apply List.map_congr_left
  intro j hj
  have e1 : (tAP τ a nm).1 (20 + j) = τ.1 (20 + j) := if_neg (by omega)
  have e2 : (tAP τ a nm).2.1 (20 + j) = τ.2.1 (20 + j) := if_neg (by omega)
  rw [e1]
  unfold obG sI
  rw [e2, sA_ne (by omega), sA_ne (by omega)]
  rfl
theorem sXPe (hC : CX own cc nL ret0 D gCl nwG Z Hb A p s m args meth c) {a nm : Nat} {n1 n2 i : Int32} (hP : va_P D gCl (wX D ad rf tw ((a, .inr (7, [.ref nm, .int n1, .int n2])) :: F) τ S) H) (hD : va_D A (wX D ad rf tw ((a, .inr (7, [.ref nm, .int n1, .int n2])) :: F) τ S)) (hS : va_S A s.heap H locs) (hin : vp_in i 6) (hk : i.toNatClampNeg = τ.2.2.1) (hdg : decode cc pc = .ok (.aastore, 1))
    (kk : ∀ (t1 : TD) (S1 : XS), t1 = tAP τ a nm → S1 = xN (xN S (1000 + 2 * τ.2.2.1) 1 n1) (1000 + 2 * τ.2.2.1) 2 n2 → ∀ (H : Heap) (locs : List Loc), va_P D gCl (wX D ad rf tw F t1 S1) H → va_D A (wX D ad rf tw F t1 S1) → va_S A s.heap H locs → W p l e R s m args below meth c H locs cells slots Q (F0 m (pc + 1) ls rest)) : W p l e R s m args below meth c H locs cells slots Q (F0 m pc ls (.ref a :: .int i :: .ref (τ.1 1) :: rest)) := by
  have hp : τ.2.2.1 < 6 := by rw [← hk]; exact Nat.not_le.mp fun q => hin (Or.inr q)
  refine va_astq (r := (RX9, TX9, 3)) hC.x hC.b hC.K.1 hP hD hS (((a, .inr (7, [.ref nm, .int n1, .int n2])) :: F : va_W).length + ((xc D ad rf tw τ S).length + 1)) 4 0 7 (wX_t (xt_f (by omega) rfl)) rfl rfl gCl_X9 hin hdg (fun H1 locs1 hP1 hD1 hS1 => ?_)
  have key : (wX D ad rf tw ((a, .inr (7, [.ref nm, .int n1, .int n2])) :: F) τ S).set (((a, .inr (7, [.ref nm, .int n1, .int n2])) :: F : va_W).length + ((xc D ad rf tw τ S).length + 1)) (τ.1 1, .inl (D.1 104, 6, .inr (.inr (.inr (.inr (va_up (fun i => if i < τ.2.2.1 then some (τ.1 (10 + i)) else none) i.toNatClampNeg (some a)))))))
      = (a, .inr (7, [.ref nm, .int n1, .int n2])) :: ((F ++ (xc D ad rf tw τ S ++ (tb7 D (tAP τ a nm) (xN (xN S (1000 + 2 * τ.2.2.1) 1 n1) (1000 + 2 * τ.2.2.1) 2 n2).2.2.1 ++ tbP τ S.2.2.1))) ++ (tbG τ S.2.2.1 ++ plC D S.2.2.2)) := by
    rw [wX_cons, show ((a, .inr (7, [.ref nm, .int n1, .int n2])) :: F : va_W).length + ((xc D ad rf tw τ S).length + 1) = (F.length + ((xc D ad rf tw τ S).length + 1)) + 1 by show F.length + 1 + _ = _; omega]
    show (a, _) :: (wX D ad rf tw F τ S).set (F.length + ((xc D ad rf tw τ S).length + 1)) _ = _
    unfold wX
    rw [List.set_append_right _ _ (Nat.le_add_right _ _), Nat.add_sub_cancel_left, List.set_append_right _ _ (Nat.le_add_right _ _), Nat.add_sub_cancel_left, List.set_append_left _ _ (by rw [xt_len]; omega)]
    have e : (xt D τ S).set 1 (τ.1 1, .inl (D.1 104, 6, .inr (.inr (.inr (.inr (va_up (fun i => if i < τ.2.2.1 then some (τ.1 (10 + i)) else none) i.toNatClampNeg (some a))))))) = tb7 D (tAP τ a nm) (xN (xN S (1000 + 2 * τ.2.2.1) 1 n1) (1000 + 2 * τ.2.2.1) 2 n2).2.2.1 ++ (tbP τ S.2.2.1 ++ tbG τ S.2.2.1) := by
      show (tb7 D τ S.2.2.1 ++ (tbP τ S.2.2.1 ++ tbG τ S.2.2.1)).set 1 _ = _
      rw [List.set_append_left _ _ (by show 1 < 7; omega)]
      congr 1
      have f1 : va_up (fun i => if i < τ.2.2.1 then some (τ.1 (10 + i)) else none) i.toNatClampNeg (some a) = fun i => if i < (tAP τ a nm).2.2.1 then some ((tAP τ a nm).1 (10 + i)) else none := by
        rw [hk]
        funext j
        show (if j = τ.2.2.1 then some a else if j < τ.2.2.1 then some (τ.1 (10 + j)) else none) = if j < τ.2.2.1 + 1 then some (if 10 + j = 10 + τ.2.2.1 then a else τ.1 (10 + j)) else none
        by_cases h1 : j = τ.2.2.1
        · rw [if_pos h1, if_pos (by omega), if_pos (by omega)]
        · by_cases h2 : j < τ.2.2.1
          · rw [if_neg h1, if_pos h2, if_pos (by omega), if_neg (by omega)]
          · rw [if_neg h1, if_neg h2, if_neg (by omega)]
      have f2 : (fun i => if i < τ.2.2.2.1 then some (τ.1 (20 + i)) else none) = fun i => if i < (tAP τ a nm).2.2.2.1 then some ((tAP τ a nm).1 (20 + i)) else none := by
        funext j
        show _ = if j < τ.2.2.2.1 then some (if 20 + j = 10 + τ.2.2.1 then a else τ.1 (20 + j)) else none
        rw [if_neg (show ¬ 20 + j = 10 + τ.2.2.1 by omega)]
      have a0 : ∀ j, j < 7 → (tAP τ a nm).1 j = τ.1 j := fun j hj => if_neg (by omega)
      have b0 : ∀ r, r < 1000 → (xN (xN S (1000 + 2 * τ.2.2.1) 1 n1) (1000 + 2 * τ.2.2.1) 2 n2).2.2.1.1.1 r = S.2.2.1.1.1 r := fun r hr => by
        show (sI (sI S.2.2.1 (1000 + 2 * τ.2.2.1) 1 n1) (1000 + 2 * τ.2.2.1) 2 n2).1.1 r = _
        unfold sI
        rw [sA_ne (by omega), sA_ne (by omega)]
      unfold tb7 obT
      rw [a0 0 (by omega), a0 1 (by omega), a0 2 (by omega), a0 3 (by omega), a0 4 (by omega), a0 5 (by omega), a0 6 (by omega), b0 50 (by omega), b0 53 (by omega), b0 54 (by omega), b0 55 (by omega), b0 56 (by omega), f1, f2]
      rfl
    rw [e]
    simp only [List.append_assoc]
  rw [key] at hP1 hD1
  have fin : (F ++ (xc D ad rf tw τ S ++ (tb7 D (tAP τ a nm) (xN (xN S (1000 + 2 * τ.2.2.1) 1 n1) (1000 + 2 * τ.2.2.1) 2 n2).2.2.1 ++ tbP τ S.2.2.1))) ++ (a, .inr (7, [.ref nm, .int n1, .int n2])) :: (tbG τ S.2.2.1 ++ plC D S.2.2.2) = wX D ad rf tw F (tAP τ a nm) (xN (xN S (1000 + 2 * τ.2.2.1) 1 n1) (1000 + 2 * τ.2.2.1) 2 n2) := by
    unfold wX
    have e0 : xc D ad rf tw (tAP τ a nm) (xN (xN S (1000 + 2 * τ.2.2.1) 1 n1) (1000 + 2 * τ.2.2.1) 2 n2) = xc D ad rf tw τ S := by
      unfold xc
      rw [show (tAP τ a nm).1 0 = τ.1 0 from if_neg (by omega)]
      rfl
    have e1 : xt D (tAP τ a nm) (xN (xN S (1000 + 2 * τ.2.2.1) 1 n1) (1000 + 2 * τ.2.2.1) 2 n2) = tb7 D (tAP τ a nm) (xN (xN S (1000 + 2 * τ.2.2.1) 1 n1) (1000 + 2 * τ.2.2.1) 2 n2).2.2.1 ++ ((tbP τ S.2.2.1 ++ [(a, .inr (7, [.ref nm, .int n1, .int n2]))]) ++ tbG τ S.2.2.1) := by
      show tb7 D _ _ ++ (tbP _ _ ++ tbG _ _) = _
      rw [tbP_up (S0 := S.2.2.1) (S1 := (xN (xN S (1000 + 2 * τ.2.2.1) 1 n1) (1000 + 2 * τ.2.2.1) 2 n2).2.2.1) (n1 := n1) (n2 := n2) rfl, tbG_P (S0 := S.2.2.1) (S1 := (xN (xN S (1000 + 2 * τ.2.2.1) 1 n1) (1000 + 2 * τ.2.2.1) 2 n2).2.2.1) (n1 := n1) (n2 := n2) rfl hp]
    rw [e0, e1]
    simp only [List.append_assoc]
    rfl
  have hP2 := mv_P hP1
  have hD2 := mv_D hD1
  rw [fin] at hP2 hD2
  exact kk _ _ rfl rfl _ _ hP2 hD2 hS1
theorem va_ldcwS (hC : CX own cc nL ret0 D gCl nwG Z Hb A p s m args meth c) {tx : String} {q : Nat} (hZ : vk_R own index tx q s) (hdg : decode cc pc = .ok (.ldc_w index, 3))
    (k : W p l e R s m args below meth c H locs cells slots Q (F0 m (pc + 3) ls (.ref q :: rest))) : W p l e R s m args below meth c H locs cells slots Q (F0 m pc ls rest) := by
  intro T hT X
  obtain ⟨t, a1, b1⟩ := k T hT X
  refine ⟨t, ?_, b1⟩
  obtain ⟨k, cf, i, a', hk, hcf, hcp, -, hr, hev'⟩ := Cond.stringRef_spec hC.ow hZ.1
  cases hZ.2.symm.trans hev'
  obtain ⟨k', hk', he⟩ := X.warmed.alike.2.2 _ _ hk
  have hr' : k'.resolved[index]? = some (some (.string q)) := by
    rcases X.warmed.entry hk hk' index with h | ⟨h, -⟩
    · rw [h]; exact hr
    · rw [hr] at h; cases h
  have hexec := hC.x
  have hdg' : decode c.code (F0 m pc ls rest).pc = .ok (.ldc_w index, 3) := by rw [hC.b]; exact hdg
  jvm_step X.here [hexec, hdg', ldc_w.wp_string (e := e) (s := T) (f := F0 m pc ls rest) X.here.top hk' (by rw [he]; exact hcf) hcp hr']
  exact a1
theorem tbG_up {nm a lw : Nat} {n0 n1 n2 n3 n5 : Int32} {S0 S1 : CS} (hS1 : S1 = sI (sI (sI (sI (sI S0 (1001 + 2 * τ.2.2.2.1) 0 n0) (1001 + 2 * τ.2.2.2.1) 1 n1) (1001 + 2 * τ.2.2.2.1) 2 n2) (1001 + 2 * τ.2.2.2.1) 3 n3) (1001 + 2 * τ.2.2.2.1) 5 n5) : tbG (tAG τ a nm lw) S1 = tbG τ S0 ++ [(a, .inr (8 + lw, [.int n0, .int n1, .int n2, .int n3, .ref nm, .int n5]))] := by
  subst hS1
  unfold tbG
  show (List.range (τ.2.2.2.1 + 1)).map _ = _
  rw [List.range_succ, List.map_append]
  congr 1
  · apply List.map_congr_left
    intro j hj
    have hj : j < τ.2.2.2.1 := List.mem_range.mp hj
    have e1 : (tAG τ a nm lw).1 (20 + j) = τ.1 (20 + j) := if_neg (by omega)
    have e2 : (tAG τ a nm lw).2.1 (20 + j) = τ.2.1 (20 + j) := if_neg (by omega)
    have e3 : (tAG τ a nm lw).2.2.2.2 j = τ.2.2.2.2 j := if_neg (by omega)
    rw [e1, e3]
    unfold obG sI
    rw [e2, sA_ne (by omega), sA_ne (by omega), sA_ne (by omega), sA_ne (by omega), sA_ne (by omega)]
  · have e1 : (tAG τ a nm lw).1 (20 + τ.2.2.2.1) = a := if_pos rfl
    have e2 : (tAG τ a nm lw).2.1 (20 + τ.2.2.2.1) = nm := if_pos rfl
    have e3 : (tAG τ a nm lw).2.2.2.2 τ.2.2.2.1 = lw := if_pos rfl
    show [((tAG τ a nm lw).1 (20 + τ.2.2.2.1), (Sum.inr (8 + (tAG τ a nm lw).2.2.2.2 τ.2.2.2.1, obG (tAG τ a nm lw) _ τ.2.2.2.1) : va_E))] = [_]
    rw [e1, e3]
    unfold obG sI
    rw [e2, sA_eq, sA_eq, sA_eq, sA_eq, sA_eq]
    simp [upd]
theorem tbP_G {nm a lw : Nat} {n0 n1 n2 n3 n5 : Int32} {S0 S1 : CS} (hS1 : S1 = sI (sI (sI (sI (sI S0 (1001 + 2 * τ.2.2.2.1) 0 n0) (1001 + 2 * τ.2.2.2.1) 1 n1) (1001 + 2 * τ.2.2.2.1) 2 n2) (1001 + 2 * τ.2.2.2.1) 3 n3) (1001 + 2 * τ.2.2.2.1) 5 n5) (hp : τ.2.2.1 ≤ 6) : tbP (tAG τ a nm lw) S1 = tbP τ S0 := by
  subst hS1
  unfold tbP
  show (List.range τ.2.2.1).map _ = _
  apply List.map_congr_left
  intro j hj
  have hj : j < τ.2.2.1 := List.mem_range.mp hj
  have e1 : (tAG τ a nm lw).1 (10 + j) = τ.1 (10 + j) := if_neg (by omega)
  have e2 : (tAG τ a nm lw).2.1 (10 + j) = τ.2.1 (10 + j) := if_neg (by omega)
  rw [e1]
  unfold obP sI
  rw [e2, sA_ne (by omega), sA_ne (by omega), sA_ne (by omega), sA_ne (by omega), sA_ne (by omega)]
def xG (S : XS) (d : Nat) (n0 n1 n2 n3 n5 : Int32) : XS := xN (xN (xN (xN (xN S (1001 + 2 * d) 0 n0) (1001 + 2 * d) 1 n1) (1001 + 2 * d) 2 n2) (1001 + 2 * d) 3 n3) (1001 + 2 * d) 5 n5
theorem sXGh (hC : CX own cc nL ret0 D gCl nwG Z Hb A p s m args meth c) {adK adV : Nat → Nat} (hZ : ∀ U, Z U → zS adK adV A Hb U) {a nm lw : Nat} {n0 n1 n2 n3 n5 i : Int32} (hlw : lw < 4) (hpp : τ.2.2.1 ≤ 6) (hP : va_P D gCl (wX D ad rf tw ((a, .inr (8 + lw, [.int n0, .int n1, .int n2, .int n3, .ref nm, .int n5])) :: F) τ S) H) (hD : va_D A (wX D ad rf tw ((a, .inr (8 + lw, [.int n0, .int n1, .int n2, .int n3, .ref nm, .int n5])) :: F) τ S)) (hS : va_S A s.heap H locs) (hin : vp_in i 6) (hk : i.toNatClampNeg = τ.2.2.2.1) (hdg : decode cc pc = .ok (.aastore, 1))
    (kk : ∀ (t1 : TD) (S1 : XS), t1 = tAG τ a nm lw → S1 = xG S τ.2.2.2.1 n0 n1 n2 n3 n5 → ∀ (H : Heap) (locs : List Loc), va_P D gCl (wX D ad rf tw F t1 S1) H → va_D A (wX D ad rf tw F t1 S1) → va_S A s.heap H locs → W p l e R s m args below meth c H locs cells slots Q (F0 m (pc + 1) ls rest)) : W p l e R s m args below meth c H locs cells slots Q (F0 m pc ls (.ref a :: .int i :: .ref (τ.1 2) :: rest)) := by
  have fin0 : ∀ (H1 : Heap) (locs1 : List Loc), va_P D gCl ((wX D ad rf tw ((a, .inr (8 + lw, [.int n0, .int n1, .int n2, .int n3, .ref nm, .int n5])) :: F) τ S).set (((a, .inr (8 + lw, [.int n0, .int n1, .int n2, .int n3, .ref nm, .int n5])) :: F : va_W).length + ((xc D ad rf tw τ S).length + 2)) (τ.1 2, .inl (D.1 105, 6, .inr (.inr (.inr (.inr (va_up (fun i => if i < τ.2.2.2.1 then some (τ.1 (20 + i)) else none) i.toNatClampNeg (some a)))))))) H1 → va_D A ((wX D ad rf tw ((a, .inr (8 + lw, [.int n0, .int n1, .int n2, .int n3, .ref nm, .int n5])) :: F) τ S).set (((a, .inr (8 + lw, [.int n0, .int n1, .int n2, .int n3, .ref nm, .int n5])) :: F : va_W).length + ((xc D ad rf tw τ S).length + 2)) (τ.1 2, .inl (D.1 105, 6, .inr (.inr (.inr (.inr (va_up (fun i => if i < τ.2.2.2.1 then some (τ.1 (20 + i)) else none) i.toNatClampNeg (some a)))))))) → va_S A s.heap H1 locs1 → W p l e R s m args below meth c H1 locs1 cells slots Q (F0 m (pc + 1) ls rest) := by
    intro H1 locs1 hP1 hD1 hS1
    have key : (wX D ad rf tw ((a, .inr (8 + lw, [.int n0, .int n1, .int n2, .int n3, .ref nm, .int n5])) :: F) τ S).set (((a, .inr (8 + lw, [.int n0, .int n1, .int n2, .int n3, .ref nm, .int n5])) :: F : va_W).length + ((xc D ad rf tw τ S).length + 2)) (τ.1 2, .inl (D.1 105, 6, .inr (.inr (.inr (.inr (va_up (fun i => if i < τ.2.2.2.1 then some (τ.1 (20 + i)) else none) i.toNatClampNeg (some a)))))))
        = (a, .inr (8 + lw, [.int n0, .int n1, .int n2, .int n3, .ref nm, .int n5])) :: ((F ++ (xc D ad rf tw τ S ++ (tb7 D (tAG τ a nm lw) (xG S τ.2.2.2.1 n0 n1 n2 n3 n5).2.2.1 ++ (tbP τ S.2.2.1 ++ tbG τ S.2.2.1)))) ++ plC D S.2.2.2) := by
      rw [wX_cons, show ((a, .inr (8 + lw, [.int n0, .int n1, .int n2, .int n3, .ref nm, .int n5])) :: F : va_W).length + ((xc D ad rf tw τ S).length + 2) = (F.length + ((xc D ad rf tw τ S).length + 2)) + 1 by show F.length + 1 + _ = _; omega]
      show (a, _) :: (wX D ad rf tw F τ S).set (F.length + ((xc D ad rf tw τ S).length + 2)) _ = _
      unfold wX
      rw [List.set_append_right _ _ (Nat.le_add_right _ _), Nat.add_sub_cancel_left, List.set_append_right _ _ (Nat.le_add_right _ _), Nat.add_sub_cancel_left, List.set_append_left _ _ (by rw [xt_len]; omega)]
      have e : (xt D τ S).set 2 (τ.1 2, .inl (D.1 105, 6, .inr (.inr (.inr (.inr (va_up (fun i => if i < τ.2.2.2.1 then some (τ.1 (20 + i)) else none) i.toNatClampNeg (some a))))))) = tb7 D (tAG τ a nm lw) (xG S τ.2.2.2.1 n0 n1 n2 n3 n5).2.2.1 ++ (tbP τ S.2.2.1 ++ tbG τ S.2.2.1) := by
        show (tb7 D τ S.2.2.1 ++ (tbP τ S.2.2.1 ++ tbG τ S.2.2.1)).set 2 _ = _
        rw [List.set_append_left _ _ (by show 2 < 7; omega)]
        congr 1
        have f1 : va_up (fun i => if i < τ.2.2.2.1 then some (τ.1 (20 + i)) else none) i.toNatClampNeg (some a) = fun i => if i < (tAG τ a nm lw).2.2.2.1 then some ((tAG τ a nm lw).1 (20 + i)) else none := by
          rw [hk]
          funext j
          show (if j = τ.2.2.2.1 then some a else if j < τ.2.2.2.1 then some (τ.1 (20 + j)) else none) = if j < τ.2.2.2.1 + 1 then some (if 20 + j = 20 + τ.2.2.2.1 then a else τ.1 (20 + j)) else none
          by_cases h1 : j = τ.2.2.2.1
          · rw [if_pos h1, if_pos (by omega), if_pos (by omega)]
          · by_cases h2 : j < τ.2.2.2.1
            · rw [if_neg h1, if_pos h2, if_pos (by omega), if_neg (by omega)]
            · rw [if_neg h1, if_neg h2, if_neg (by omega)]
        have f2 : (fun i => if i < τ.2.2.1 then some (τ.1 (10 + i)) else none) = fun i => if i < (tAG τ a nm lw).2.2.1 then some ((tAG τ a nm lw).1 (10 + i)) else none := by
          funext j
          show _ = if j < τ.2.2.1 then some (if 10 + j = 20 + τ.2.2.2.1 then a else τ.1 (10 + j)) else none
          by_cases h2 : j < τ.2.2.1
          · rw [if_pos h2, if_pos h2, if_neg (by omega)]
          · rw [if_neg h2, if_neg h2]
        have a0 : ∀ j, j < 7 → (tAG τ a nm lw).1 j = τ.1 j := fun j hj => if_neg (by omega)
        have b0 : ∀ r, r < 1000 → (xG S τ.2.2.2.1 n0 n1 n2 n3 n5).2.2.1.1.1 r = S.2.2.1.1.1 r := fun r hr => by
          show (sI (sI (sI (sI (sI S.2.2.1 (1001 + 2 * τ.2.2.2.1) 0 n0) (1001 + 2 * τ.2.2.2.1) 1 n1) (1001 + 2 * τ.2.2.2.1) 2 n2) (1001 + 2 * τ.2.2.2.1) 3 n3) (1001 + 2 * τ.2.2.2.1) 5 n5).1.1 r = _
          unfold sI
          rw [sA_ne (by omega), sA_ne (by omega), sA_ne (by omega), sA_ne (by omega), sA_ne (by omega)]
        unfold tb7 obT
        rw [a0 0 (by omega), a0 1 (by omega), a0 2 (by omega), a0 3 (by omega), a0 4 (by omega), a0 5 (by omega), a0 6 (by omega), b0 50 (by omega), b0 53 (by omega), b0 54 (by omega), b0 55 (by omega), b0 56 (by omega), f1, f2]
        rfl
      rw [e]
      simp only [List.append_assoc]
    rw [key] at hP1 hD1
    have fin : (F ++ (xc D ad rf tw τ S ++ (tb7 D (tAG τ a nm lw) (xG S τ.2.2.2.1 n0 n1 n2 n3 n5).2.2.1 ++ (tbP τ S.2.2.1 ++ tbG τ S.2.2.1)))) ++ (a, .inr (8 + lw, [.int n0, .int n1, .int n2, .int n3, .ref nm, .int n5])) :: plC D S.2.2.2 = wX D ad rf tw F (tAG τ a nm lw) (xG S τ.2.2.2.1 n0 n1 n2 n3 n5) := by
      unfold wX
      have e0 : xc D ad rf tw (tAG τ a nm lw) (xG S τ.2.2.2.1 n0 n1 n2 n3 n5) = xc D ad rf tw τ S := by
        unfold xc
        rw [show (tAG τ a nm lw).1 0 = τ.1 0 from if_neg (by omega)]
        rfl
      have e1 : xt D (tAG τ a nm lw) (xG S τ.2.2.2.1 n0 n1 n2 n3 n5) = tb7 D (tAG τ a nm lw) (xG S τ.2.2.2.1 n0 n1 n2 n3 n5).2.2.1 ++ (tbP τ S.2.2.1 ++ (tbG τ S.2.2.1 ++ [(a, .inr (8 + lw, [.int n0, .int n1, .int n2, .int n3, .ref nm, .int n5]))])) := by
        show tb7 D _ _ ++ (tbP _ _ ++ tbG _ _) = _
        rw [tbG_up (S0 := S.2.2.1) (S1 := (xG S τ.2.2.2.1 n0 n1 n2 n3 n5).2.2.1) (n0 := n0) (n1 := n1) (n2 := n2) (n3 := n3) (n5 := n5) rfl, tbP_G (S0 := S.2.2.1) (S1 := (xG S τ.2.2.2.1 n0 n1 n2 n3 n5).2.2.1) (n0 := n0) (n1 := n1) (n2 := n2) (n3 := n3) (n5 := n5) rfl hpp]
      rw [e0, e1]
      simp only [List.append_assoc]
      rfl
    have hP2 := mv_P hP1
    have hD2 := mv_D hD1
    rw [fin] at hP2 hD2
    exact kk _ _ rfl rfl _ _ hP2 hD2 hS1
  have hz := (hZ s hC.K.2.2.2).2.2.2.2.2.2.2.2.2
  have hpos := wX_t (D := D) (ad := ad) (rf := rf) (tw := tw) (F := (a, .inr (8 + lw, [.int n0, .int n1, .int n2, .int n3, .ref nm, .int n5])) :: F) (S := S) (xt_f (D := D) (τ := τ) (S := S) (j := 2) (by omega) rfl)
  match lw, hlw, hP, hD, fin0, hpos with
  | 0, _, hP, hD, fin0, hpos => exact va_astqO (r := (RX11, TX11, 6)) hC.x hC.b hC.K.1 hP hD hS _ 5 0 8 hpos rfl hz.1 rfl gCl_X11 hin hdg (fun H1 locs1 hP1 hD1 hS1 => fin0 H1 locs1 hP1 hD1 hS1)
  | 1, _, hP, hD, fin0, hpos => exact va_astqO (r := (RX12, TX12, 6)) hC.x hC.b hC.K.1 hP hD hS _ 5 0 9 hpos rfl hz.2.1 rfl gCl_X12 hin hdg (fun H1 locs1 hP1 hD1 hS1 => fin0 H1 locs1 hP1 hD1 hS1)
  | 2, _, hP, hD, fin0, hpos => exact va_astqO (r := (RX13, TX13, 6)) hC.x hC.b hC.K.1 hP hD hS _ 5 0 10 hpos rfl hz.2.2.1 rfl gCl_X13 hin hdg (fun H1 locs1 hP1 hD1 hS1 => fin0 H1 locs1 hP1 hD1 hS1)
  | 3, _, hP, hD, fin0, hpos => exact va_astqO (r := (RX14, TX14, 6)) hC.x hC.b hC.K.1 hP hD hS _ 5 0 11 hpos rfl hz.2.2.2.1 rfl gCl_X14 hin hdg (fun H1 locs1 hP1 hD1 hS1 => fin0 H1 locs1 hP1 hD1 hS1)
theorem kCs {adK adV : Nat → Nat} (hZ : ∀ U, Z U → zS adK adV A Hb U) (i : Nat) (hi : i < 33) : CStr A Hb Z (adK i) (kB i) := by
  refine ⟨Nat.lt_trans (kN i hi) (by omega), adV i, fun U hU => ?_⟩
  have h := (hZ U hU).2.2.2.1 i
  unfold kB
  cases e : kL[i]? with
  | none => exact absurd (List.getElem?_eq_none_iff.mp e) (by show ¬ 33 ≤ i; omega)
  | some x => exact (h x e).2
theorem lod_n (hC : CX own cc nL ret0 D gCl nwG Z Hb A p s m args meth c) {k : Fin 4} {i : Nat} {o : Option Nat} (hdg : decode cc pc = .ok (.aload_n k, 1)) (hi : (k : Nat) = i) (hl : ls[i]? = some (.val (va_rf o)))
    (kk : W p l e R s m args below meth c H locs cells slots Q (F0 m (pc + 1) ls (va_rf o :: rest))) : W p l e R s m args below meth c H locs cells slots Q (F0 m pc ls rest) := by
  cases o with
  | none => exact lv_aload_nN hC.x hC.b hdg hi hl kk
  | some a => exact lv_aload_n hC.x hC.b hdg hi hl kk
theorem sto_n (hC : CX own cc nL ret0 D gCl nwG Z Hb A p s m args meth c) {k : Fin 4} {i n : Nat} {o : Option Nat} {lv lv' : List (Nat × Value)} (hdg : decode cc pc = .ok (.astore_n k, 1)) (hi : (k : Nat) = i) (h : lv_has ls n lv) (hn : i < n) (hl : (i, va_rf o) :: lv.filter (fun q => !(q.1 == i) && !(q.1 + 1 == i && q.2.category == 2)) = lv')
    (kk : ∀ ls' : Array Slot, lv_has ls' n lv' → W p l e R s m args below meth c H locs cells slots Q (F0 m (pc + 1) ls' rest)) : W p l e R s m args below meth c H locs cells slots Q (F0 m pc ls (va_rf o :: rest)) := by
  cases o with
  | none => exact lv_astore_nN hC.x hC.b hdg hi h hn hl kk
  | some a => exact lv_astore_n hC.x hC.b hdg hi h hn hl kk
theorem go_rr {T : Type} {wf : T → va_W} {a : Array Value} {post : Nat → T → Prop} (hr : va_Run p l e R s m args below meth c H locs cells slots mc ms (F0 m pc ls st0) rest (va_Qr (fun _ => True) (fun (u : T) x t => post x u ∧ BW D gCl A wf u t) A a) A) (hS : va_S A s.heap H locs)
    (kk : ∀ (r : Nat) (u : T) (H1 : Heap) (locs1 : List Loc), post r u → va_P D gCl (wf u) H1 → va_D A (wf u) → va_S A s.heap H1 locs1 → W p l e R s m args below meth c H1 locs1 (cells + mc) (slots + ms) Q (F0 m (pc + 3) ls (.ref r :: rest))) : W p l e R s m args below meth c H locs cells slots Q (F0 m pc ls st0) :=
  va_callr hr hS (fun _ _ h => h) (fun _ h => h) (fun u ra t H1 locs1 ht _ _ hB _ _ hS1 => kk ra u H1 locs1 hB.1 (by rw [← ht]; exact hB.2.1) hB.2.2 hS1)
theorem castG (hC : CX own cc nL ret0 D gCl nwG Z Hb A p s m args meth c) {adK adV : Nat → Nat} (hZ : ∀ U, Z U → zS adK adV A Hb U) {i : Nat} (hlink : (Cond.classLink own index "SeanceStreet$Ghost").before args s = true) (hi : i < τ.2.2.2.1) (hl : τ.2.2.2.2 i < 4) (hP : va_P D gCl (wX D ad rf tw F τ S) H) (hdg : decode cc pc = .ok (.checkcast index, 3))
    (kk : W p l e R s m args below meth c H locs cells slots Q (F0 m (pc + 3) ls (.ref (τ.1 (20 + i)) :: rest))) : W p l e R s m args below meth c H locs cells slots Q (F0 m pc ls (.ref (τ.1 (20 + i)) :: rest)) := by
  have hz := (hZ s hC.K.2.2.2).2.2.2.2
  have he := wX_t (D := D) (ad := ad) (rf := rf) (tw := tw) (F := F) (S := S) (xt_g (D := D) (S := S) hi)
  generalize τ.2.2.2.2 i = x at he hl
  match x, hl, he with
  | 0, _, he => exact va_castY hC.x hC.b hC.ow hlink hz.2.2.2.2.2.1 (va_recv hC.K.1 hP gCl_X11 he) hdg kk
  | 1, _, he => exact va_castY hC.x hC.b hC.ow hlink hz.2.2.2.2.2.2.1 (va_recv hC.K.1 hP gCl_X12 he) hdg kk
  | 2, _, he => exact va_castY hC.x hC.b hC.ow hlink hz.2.2.2.2.2.2.2.1 (va_recv hC.K.1 hP gCl_X13 he) hdg kk
  | 3, _, he => exact va_castY hC.x hC.b hC.ow hlink hz.2.2.2.2.2.2.2.2.1 (va_recv hC.K.1 hP gCl_X14 he) hdg kk
theorem instGG (hC : CX own cc nL ret0 D gCl nwG Z Hb A p s m args meth c) {adK adV : Nat → Nat} (hZ : ∀ U, Z U → zS adK adV A Hb U) {i : Nat} (hlink : (Cond.classLink own index "SeanceStreet$Ghost").before args s = true) (hi : i < τ.2.2.2.1) (hl : τ.2.2.2.2 i < 4) (hP : va_P D gCl (wX D ad rf tw F τ S) H) (hdg : decode cc pc = .ok (.instanceof index, 3))
    (kk : W p l e R s m args below meth c H locs cells slots Q (F0 m (pc + 3) ls (.int 1 :: rest))) : W p l e R s m args below meth c H locs cells slots Q (F0 m pc ls (.ref (τ.1 (20 + i)) :: rest)) := by
  have hz := (hZ s hC.K.2.2.2).2.2.2.2
  have he := wX_t (D := D) (ad := ad) (rf := rf) (tw := tw) (F := F) (S := S) (xt_g (D := D) (S := S) hi)
  generalize τ.2.2.2.2 i = x at he hl
  match x, hl, he with
  | 0, _, he => exact va_instY hC.x hC.b hC.ow hlink hz.2.2.2.2.2.1 (va_recv hC.K.1 hP gCl_X11 he) hdg kk
  | 1, _, he => exact va_instY hC.x hC.b hC.ow hlink hz.2.2.2.2.2.2.1 (va_recv hC.K.1 hP gCl_X12 he) hdg kk
  | 2, _, he => exact va_instY hC.x hC.b hC.ow hlink hz.2.2.2.2.2.2.2.1 (va_recv hC.K.1 hP gCl_X13 he) hdg kk
  | 3, _, he => exact va_instY hC.x hC.b hC.ow hlink hz.2.2.2.2.2.2.2.2.1 (va_recv hC.K.1 hP gCl_X14 he) hdg kk
theorem instGP (hC : CX own cc nL ret0 D gCl nwG Z Hb A p s m args meth c) {adK adV : Nat → Nat} (hZ : ∀ U, Z U → zS adK adV A Hb U) {i : Nat} (hlink : (Cond.classLink own index "SeanceStreet$Person").before args s = true) (hi : i < τ.2.2.2.1) (hl : τ.2.2.2.2 i < 4) (hP : va_P D gCl (wX D ad rf tw F τ S) H) (hdg : decode cc pc = .ok (.instanceof index, 3))
    (kk : W p l e R s m args below meth c H locs cells slots Q (F0 m (pc + 3) ls (.int 0 :: rest))) : W p l e R s m args below meth c H locs cells slots Q (F0 m pc ls (.ref (τ.1 (20 + i)) :: rest)) := by
  have hz := (hZ s hC.K.2.2.2).2.2.2.2
  have he := wX_t (D := D) (ad := ad) (rf := rf) (tw := tw) (F := F) (S := S) (xt_g (D := D) (S := S) hi)
  generalize τ.2.2.2.2 i = x at he hl
  match x, hl, he with
  | 0, _, he => exact va_instNo hC.x hC.b hC.ow hlink hz.2.1 (va_recv hC.K.1 hP gCl_X11 he) hdg kk
  | 1, _, he => exact va_instNo hC.x hC.b hC.ow hlink hz.2.2.1 (va_recv hC.K.1 hP gCl_X12 he) hdg kk
  | 2, _, he => exact va_instNo hC.x hC.b hC.ow hlink hz.2.2.2.1 (va_recv hC.K.1 hP gCl_X13 he) hdg kk
  | 3, _, he => exact va_instNo hC.x hC.b hC.ow hlink hz.2.2.2.2.1 (va_recv hC.K.1 hP gCl_X14 he) hdg kk
theorem pend_0 {lw a : Nat} (hlw : lw < 4) {v0 v1 v2 v3 v4 v5 : Value} {v : Int32} (hC : CX RX2 cc nL ret0 D gCl nwG Z Hb A p s m args meth c) (hP : va_P D gCl (wX D ad rf tw ((a, .inr (8 + lw, [v0, v1, v2, v3, v4, v5])) :: F) τ S) H) (hD : va_D A (wX D ad rf tw ((a, .inr (8 + lw, [v0, v1, v2, v3, v4, v5])) :: F) τ S)) (hS : va_S A s.heap H locs) (hdg : decode cc pc = .ok (.putfield 215, 3))
    (kk : ∀ (H : Heap) (locs : List Loc), va_P D gCl (wX D ad rf tw ((a, .inr (8 + lw, [.int v, v1, v2, v3, v4, v5])) :: F) τ S) H → va_D A (wX D ad rf tw ((a, .inr (8 + lw, [.int v, v1, v2, v3, v4, v5])) :: F) τ S) → va_S A s.heap H locs → W p l e R s m args below meth c H locs cells slots Q (F0 m (pc + 3) ls rest)) : W p l e R s m args below meth c H locs cells slots Q (F0 m pc ls (.int v :: .ref a :: rest)) := by
  match lw, hlw, hP, hD, kk with
  | 0, _, hP, hD, kk => exact va_put (D := D) (ci := 8) (fs := [v0, v1, v2, v3, v4, v5]) (v := .int v) (ty := .int) (C := RX11) (T := TX11) (N := 6) hC.x hC.b hC.ts in_X11 tyX11 tyX11_ok nmX11 hC.ow hC.K.1 hP hD hS 0 rfl gCl_X11 0 (by decide) (hC.ts _ q785) (fun _ h9 => h9) rfl (by decide +kernel) rfl rfl (Nat.le_of_ble_eq_true rfl) hdg (fun H1 locs1 hP1 hD1 hS1 => kk H1 locs1 hP1 hD1 hS1)
  | 1, _, hP, hD, kk => exact va_put (D := D) (ci := 9) (fs := [v0, v1, v2, v3, v4, v5]) (v := .int v) (ty := .int) (C := RX12) (T := TX12) (N := 6) hC.x hC.b hC.ts in_X12 tyX12 tyX12_ok nmX12 hC.ow hC.K.1 hP hD hS 0 rfl gCl_X12 0 (by decide) (hC.ts _ q785) (fun _ h9 => h9) rfl (by decide +kernel) rfl rfl (Nat.le_of_ble_eq_true rfl) hdg (fun H1 locs1 hP1 hD1 hS1 => kk H1 locs1 hP1 hD1 hS1)
  | 2, _, hP, hD, kk => exact va_put (D := D) (ci := 10) (fs := [v0, v1, v2, v3, v4, v5]) (v := .int v) (ty := .int) (C := RX13) (T := TX13) (N := 6) hC.x hC.b hC.ts in_X13 tyX13 tyX13_ok nmX13 hC.ow hC.K.1 hP hD hS 0 rfl gCl_X13 0 (by decide) (hC.ts _ q785) (fun _ h9 => h9) rfl (by decide +kernel) rfl rfl (Nat.le_of_ble_eq_true rfl) hdg (fun H1 locs1 hP1 hD1 hS1 => kk H1 locs1 hP1 hD1 hS1)
  | 3, _, hP, hD, kk => exact va_put (D := D) (ci := 11) (fs := [v0, v1, v2, v3, v4, v5]) (v := .int v) (ty := .int) (C := RX14) (T := TX14) (N := 6) hC.x hC.b hC.ts in_X14 tyX14 tyX14_ok nmX14 hC.ow hC.K.1 hP hD hS 0 rfl gCl_X14 0 (by decide) (hC.ts _ q785) (fun _ h9 => h9) rfl (by decide +kernel) rfl rfl (Nat.le_of_ble_eq_true rfl) hdg (fun H1 locs1 hP1 hD1 hS1 => kk H1 locs1 hP1 hD1 hS1)
theorem pend_1 {lw a : Nat} (hlw : lw < 4) {v0 v1 v2 v3 v4 v5 : Value} {v : Int32} (hC : CX RX2 cc nL ret0 D gCl nwG Z Hb A p s m args meth c) (hP : va_P D gCl (wX D ad rf tw ((a, .inr (8 + lw, [v0, v1, v2, v3, v4, v5])) :: F) τ S) H) (hD : va_D A (wX D ad rf tw ((a, .inr (8 + lw, [v0, v1, v2, v3, v4, v5])) :: F) τ S)) (hS : va_S A s.heap H locs) (hdg : decode cc pc = .ok (.putfield 225, 3))
    (kk : ∀ (H : Heap) (locs : List Loc), va_P D gCl (wX D ad rf tw ((a, .inr (8 + lw, [v0, .int v, v2, v3, v4, v5])) :: F) τ S) H → va_D A (wX D ad rf tw ((a, .inr (8 + lw, [v0, .int v, v2, v3, v4, v5])) :: F) τ S) → va_S A s.heap H locs → W p l e R s m args below meth c H locs cells slots Q (F0 m (pc + 3) ls rest)) : W p l e R s m args below meth c H locs cells slots Q (F0 m pc ls (.int v :: .ref a :: rest)) := by
  match lw, hlw, hP, hD, kk with
  | 0, _, hP, hD, kk => exact va_put (D := D) (ci := 8) (fs := [v0, v1, v2, v3, v4, v5]) (v := .int v) (ty := .int) (C := RX11) (T := TX11) (N := 6) hC.x hC.b hC.ts in_X11 tyX11 tyX11_ok nmX11 hC.ow hC.K.1 hP hD hS 0 rfl gCl_X11 1 (by decide) (hC.ts _ q788) (fun _ h9 => h9) rfl (by decide +kernel) rfl rfl (Nat.le_of_ble_eq_true rfl) hdg (fun H1 locs1 hP1 hD1 hS1 => kk H1 locs1 hP1 hD1 hS1)
  | 1, _, hP, hD, kk => exact va_put (D := D) (ci := 9) (fs := [v0, v1, v2, v3, v4, v5]) (v := .int v) (ty := .int) (C := RX12) (T := TX12) (N := 6) hC.x hC.b hC.ts in_X12 tyX12 tyX12_ok nmX12 hC.ow hC.K.1 hP hD hS 0 rfl gCl_X12 1 (by decide) (hC.ts _ q788) (fun _ h9 => h9) rfl (by decide +kernel) rfl rfl (Nat.le_of_ble_eq_true rfl) hdg (fun H1 locs1 hP1 hD1 hS1 => kk H1 locs1 hP1 hD1 hS1)
  | 2, _, hP, hD, kk => exact va_put (D := D) (ci := 10) (fs := [v0, v1, v2, v3, v4, v5]) (v := .int v) (ty := .int) (C := RX13) (T := TX13) (N := 6) hC.x hC.b hC.ts in_X13 tyX13 tyX13_ok nmX13 hC.ow hC.K.1 hP hD hS 0 rfl gCl_X13 1 (by decide) (hC.ts _ q788) (fun _ h9 => h9) rfl (by decide +kernel) rfl rfl (Nat.le_of_ble_eq_true rfl) hdg (fun H1 locs1 hP1 hD1 hS1 => kk H1 locs1 hP1 hD1 hS1)
  | 3, _, hP, hD, kk => exact va_put (D := D) (ci := 11) (fs := [v0, v1, v2, v3, v4, v5]) (v := .int v) (ty := .int) (C := RX14) (T := TX14) (N := 6) hC.x hC.b hC.ts in_X14 tyX14 tyX14_ok nmX14 hC.ow hC.K.1 hP hD hS 0 rfl gCl_X14 1 (by decide) (hC.ts _ q788) (fun _ h9 => h9) rfl (by decide +kernel) rfl rfl (Nat.le_of_ble_eq_true rfl) hdg (fun H1 locs1 hP1 hD1 hS1 => kk H1 locs1 hP1 hD1 hS1)
end XRUN
