set_option maxRecDepth 100000
/-! STRINGS -/
def kL : List (String × Nat × String × List Int32) := [("SeanceStreet$Scanner", 59, "", []),
  ("SeanceStreet$Scanner", 90, "town", [116, 111, 119, 110]),
  ("SeanceStreet$Scanner", 92, "person", [112, 101, 114, 115, 111, 110]),
  ("SeanceStreet$Scanner", 94, "dead", [100, 101, 97, 100]),
  ("SeanceStreet$Scanner", 96, "mirror", [109, 105, 114, 114, 111, 114]),
  ("SeanceStreet$Scanner", 98, "unsure", [117, 110, 115, 117, 114, 101]),
  ("SeanceStreet$Scanner", 100, "heard", [104, 101, 97, 114, 100]),
  ("SeanceStreet$Scanner", 157, "houses", [104, 111, 117, 115, 101, 115]),
  ("SeanceStreet$Scanner", 162, "lips", [108, 105, 112, 115]),
  ("SeanceStreet$Scanner", 177, "house", [104, 111, 117, 115, 101]),
  ("SeanceStreet$Scanner", 186, "late", [108, 97, 116, 101]),
  ("SeanceStreet$Scanner", 191, "early", [101, 97, 114, 108, 121]),
  ("SeanceStreet$Scanner", 196, "drift", [100, 114, 105, 102, 116]),
  ("SeanceStreet$Scanner", 201, "swing", [115, 119, 105, 110, 103]),
  ("SeanceStreet$Scanner", 213, "slip", [115, 108, 105, 112]),
  ("SeanceStreet$Scanner", 217, "for", [102, 111, 114]),
  ("SeanceStreet$Scanner", 257, "night", [110, 105, 103, 104, 116]),
  ("SeanceStreetModel", 143, "town", [116, 111, 119, 110]),
  ("SeanceStreetModel", 214, "houses", [104, 111, 117, 115, 101, 115]),
  ("SeanceStreetModel", 219, "lips", [108, 105, 112, 115]),
  ("SeanceStreetModel", 145, "person", [112, 101, 114, 115, 111, 110]),
  ("SeanceStreetModel", 147, "dead", [100, 101, 97, 100]),
  ("SeanceStreetModel", 149, "mirror", [109, 105, 114, 114, 111, 114]),
  ("SeanceStreetModel", 151, "unsure", [117, 110, 115, 117, 114, 101]),
  ("SeanceStreetModel", 153, "heard", [104, 101, 97, 114, 100]),
  ("SeanceStreetModel", 231, "house", [104, 111, 117, 115, 101]),
  ("SeanceStreetModel", 243, "late", [108, 97, 116, 101]),
  ("SeanceStreetModel", 245, "early", [101, 97, 114, 108, 121]),
  ("SeanceStreetModel", 247, "drift", [100, 114, 105, 102, 116]),
  ("SeanceStreetModel", 249, "swing", [115, 119, 105, 110, 103]),
  ("SeanceStreetModel", 251, "slip", [115, 108, 105, 112]),
  ("SeanceStreetModel", 253, "for", [102, 111, 114]),
  ("SeanceStreetModel", 282, "night", [110, 105, 103, 104, 116])]
def kB (i : Nat) : List Int32 := match kL[i]? with
  | some x => x.2.2.2
  | none => []
theorem kN (i : Nat) (h : i < 33) : (kB i).length < 10 := by
  revert i
  decide +kernel
def kOK (adK adV : Nat → Nat) (A : Nat → Prop) (U : State) (H : Heap) (i : Nat) : Prop := ∀ x, kL[i]? = some x → vk_R x.1 x.2.1 x.2.2.1 (adK i) U ∧ va_O "java/lang/String" (adK i) A U H ∧ va_OF "java/lang/String" "coder" "B" (.int 0) (adK i) A U H ∧ va_OF "java/lang/String" "value" "[B" (.ref (adV i)) (adK i) A U H ∧ va_T .byte (adV i) x.2.2.2.length (fun j => .int (x.2.2.2.getD j 0)) A U H
def zCl (U : State) : Prop := va_Nc "SeanceStreet$Person" "SeanceStreet$Ghost" U ∧ va_Nc "SeanceStreet$Late" "SeanceStreet$Person" U ∧ va_Nc "SeanceStreet$Early" "SeanceStreet$Person" U ∧ va_Nc "SeanceStreet$Drift" "SeanceStreet$Person" U ∧ va_Nc "SeanceStreet$Swing" "SeanceStreet$Person" U ∧ va_Nw (.castable "SeanceStreet$Late" "SeanceStreet$Ghost") U ∧ va_Nw (.castable "SeanceStreet$Early" "SeanceStreet$Ghost") U ∧ va_Nw (.castable "SeanceStreet$Drift" "SeanceStreet$Ghost") U ∧ va_Nw (.castable "SeanceStreet$Swing" "SeanceStreet$Ghost") U ∧ va_Nw (.castable "SeanceStreet$Refused" "SeanceStreet$Refused") U ∧ va_Nw (.castable "java/util/NoSuchElementException" "java/util/NoSuchElementException") U
/-- what is read of the launch's own: statics, String constants, kinships of classes -/
def zS (adK adV : Nat → Nat) (A : Nat → Prop) (Hb : Heap) (U : State) : Prop := zThr A Hb U ∧ va_Z "java/lang/String" "COMPACT_STRINGS" "Z" (.int 1) A U Hb ∧ (∃ o : Option Nat, va_Z "jdk/internal/util/Preconditions" "SIOOBE_FORMATTER" "Ljava/util/function/BiFunction;" (va_rf o) A U Hb) ∧ (∀ i, kOK adK adV A U Hb i) ∧ zCl U
/-- bytes in an array of the world, or in a constant's -/
def IsArr (D : va_G) (A : Nat → Prop) (Hb : Heap) (Z : State → Prop) (w : va_W) (b : Nat) (bs : List Int32) : Prop := bs.length < 1000 ∧ ((∃ q : Nat, w[q]? = some (b, (.inl (D.1 102, bs.length, .inl (fun j => bs.getD j 0)) : va_E))) ∨ ∀ U, Z U → va_T .byte b bs.length (fun j => .int (bs.getD j 0)) A U Hb)
/-- a text of the world -/
def PStr (D : va_G) (w : va_W) (a : Nat) (bs : List Int32) : Prop := bs.length < 1000 ∧ ∃ (q b : Nat) (h z : Int32), w[q]? = some (a, (.inr (13, [.ref b, .int 0, .int h, .int z]) : va_E)) ∧ ∃ q' : Nat, w[q']? = some (b, (.inl (D.1 102, bs.length, .inl (fun j => bs.getD j 0)) : va_E))
def CStr (A : Nat → Prop) (Hb : Heap) (Z : State → Prop) (a : Nat) (bs : List Int32) : Prop := bs.length < 1000 ∧ ∃ b : Nat, ∀ U, Z U → va_O "java/lang/String" a A U Hb ∧ va_OF "java/lang/String" "coder" "B" (.int 0) a A U Hb ∧ va_OF "java/lang/String" "value" "[B" (.ref b) a A U Hb ∧ va_T .byte b bs.length (fun j => .int (bs.getD j 0)) A U Hb
def IsStr (D : va_G) (A : Nat → Prop) (Hb : Heap) (Z : State → Prop) (w : va_W) (a : Nat) (bs : List Int32) : Prop := PStr D w a bs ∨ CStr A Hb Z a bs
theorem kStr {D : va_G} {adK adV : Nat → Nat} {A : Nat → Prop} {Hb : Heap} {Z : State → Prop} {w : va_W} (hZ : ∀ U, Z U → zS adK adV A Hb U) (i : Nat) (hi : i < 33) : IsStr D A Hb Z w (adK i) (kB i) := by
  refine Or.inr ⟨Nat.lt_trans (kN i hi) (by omega), adV i, fun U hU => ?_⟩
  have h := (hZ U hU).2.2.2.1 i
  unfold kB
  cases e : kL[i]? with
  | none => exact absurd (List.getElem?_eq_none_iff.mp e) (by show ¬ 33 ≤ i; omega)
  | some x => exact (h x e).2
section SROWS
variable {p : Program} {l : Launch} {e : Env} {R : Room} {s : State} {m : MethodId} {args : Array Value} {below : List Frame} {meth : Method} {c : Code} {H : Heap} {locs : List Loc} {cells slots : Nat} {Q : State → Prop} {own : String} {cc : ByteArray} {nL pc : Nat} {ret0 : Option FieldType} {D : va_G} {Z : State → Prop} {Hb : Heap} {A : Nat → Prop} {ls : Array Slot} {rest : List Value} {w : va_W} {a b : Nat} {bs : List Int32} {adK adV : Nat → Nat}
theorem s_val (hC : CX RJ3 cc nL ret0 D gCl nwG Z Hb A p s m args meth c) (hP : va_P D gCl w H) (hS : va_S A s.heap H locs) (hs : IsStr D A Hb Z w a bs) (hdg : decode cc pc = .ok (.getfield 9, 3)) (kk : ∀ b, IsArr D A Hb Z w b bs → W p l e R s m args below meth c H locs cells slots Q (F0 m (pc + 3) ls (.ref b :: rest))) : W p l e R s m args below meth c H locs cells slots Q (F0 m pc ls (.ref a :: rest)) := by
  rcases hs with ⟨hl, q, b, h, z, h1, h2⟩ | ⟨hl, b, h⟩
  · exact va_get (D := D) (ci := 13) (fs := [.ref b, .int 0, .int h, .int z]) (v := .ref b) (C := RJ3) (T := TJ3) (N := 4) hC.x hC.b hC.ts in_J3 hC.ow hC.K.1 hP q h1 gCl_J3 0 (by decide) (hC.ts _ q594) (fun _ h9 => h9) rfl hdg (kk b ⟨hl, Or.inl h2⟩)
  · exact vk_getf hC.x hC.b ((h s hC.K.2.2.2).2.2.1.kept hC.ag) hS hC.ow (hC.ts _ q594) (fun _ h9 => h9) hdg (kk b ⟨hl, Or.inr fun U hU => (h U hU).2.2.2⟩)
theorem s_cod (hC : CX RJ3 cc nL ret0 D gCl nwG Z Hb A p s m args meth c) (hP : va_P D gCl w H) (hS : va_S A s.heap H locs) (hs : IsStr D A Hb Z w a bs) (hdg : decode cc pc = .ok (.getfield 15, 3)) (kk : W p l e R s m args below meth c H locs cells slots Q (F0 m (pc + 3) ls (.int 0 :: rest))) : W p l e R s m args below meth c H locs cells slots Q (F0 m pc ls (.ref a :: rest)) := by
  rcases hs with ⟨hl, q, b, h, z, h1, h2⟩ | ⟨hl, b, h⟩
  · exact va_get (D := D) (ci := 13) (fs := [.ref b, .int 0, .int h, .int z]) (v := .int 0) (C := RJ3) (T := TJ3) (N := 4) hC.x hC.b hC.ts in_J3 hC.ow hC.K.1 hP q h1 gCl_J3 1 (by decide) (hC.ts _ q595) (fun _ h9 => h9) rfl hdg kk
  · exact vk_getf hC.x hC.b ((h s hC.K.2.2.2).2.1.kept hC.ag) hS hC.ow (hC.ts _ q595) (fun _ h9 => h9) hdg kk
theorem s_len (hC : CX own cc nL ret0 D gCl nwG Z Hb A p s m args meth c) (hP : va_P D gCl w H) (hS : va_S A s.heap H locs) (hb : IsArr D A Hb Z w b bs) (hdg : decode cc pc = .ok (.arraylength, 1)) (kk : W p l e R s m args below meth c H locs cells slots Q (F0 m (pc + 1) ls (.int (nI bs.length) :: rest))) : W p l e R s m args below meth c H locs cells slots Q (F0 m pc ls (.ref b :: rest)) := by
  rcases hb with ⟨hl, ⟨q, h⟩ | h⟩
  · exact va_alen hC.x hC.b hC.K.1 hP q 2 h rfl rfl hdg kk
  · exact va_tlen hC.x hC.b ((h s hC.K.2.2.2).kept hC.ag) hS rfl hdg kk
theorem s_bld (hC : CX own cc nL ret0 D gCl nwG Z Hb A p s m args meth c) (hP : va_P D gCl w H) (hS : va_S A s.heap H locs) (hb : IsArr D A Hb Z w b bs) {i : Int32} (hin : vp_in i bs.length) (hdg : decode cc pc = .ok (.baload, 1)) (kk : W p l e R s m args below meth c H locs cells slots Q (F0 m (pc + 1) ls (.int (bs.getD i.toNatClampNeg 0) :: rest))) : W p l e R s m args below meth c H locs cells slots Q (F0 m pc ls (.int i :: .ref b :: rest)) := by
  rcases hb with ⟨hl, ⟨q, h⟩ | h⟩
  · exact va_bald hC.x hC.b hC.K.1 hP q 2 h rfl hin hdg kk
  · exact va_tb hC.x hC.b ((h s hC.K.2.2.2).kept hC.ag) hS hin rfl hdg kk
theorem s_cell (hC : CX own cc nL ret0 D gCl nwG Z Hb A p s m args meth c) (hP : va_P D gCl w H) (hS : va_S A s.heap H locs) (hs : IsStr D A Hb Z w a bs) : ∃ cell : Cell, H[a]? = some cell ∧ cell.vm.isStatics = false ∧ s.vm.findClass "java/lang/String" = some cell.cls := by
  rcases hs with ⟨hl, q, b, h, z, h1, h2⟩ | ⟨hl, b, h⟩
  · exact va_recv hC.K.1 hP gCl_J3 h1
  · obtain ⟨cell, g1, g2, g3, -⟩ := ((h s hC.K.2.2.2).1.kept hC.ag).kept hS.2.1
    exact ⟨cell, g1, g2, g3⟩
theorem s_castB (hC : CX own cc nL ret0 D gCl nwG Z Hb A p s m args meth c) (hP : va_P D gCl w H) (hS : va_S A s.heap H locs) {q : Nat} (hq : w[q]? = some (b, (.inl (D.1 102, bs.length, .inl (fun j => bs.getD j 0)) : va_E))) {index : Nat} (hlink : (Cond.classLink own index "[B").before args s = true) (hdg : decode cc pc = .ok (.checkcast index, 3)) (kk : W p l e R s m args below meth c H locs cells slots Q (F0 m (pc + 3) ls (.ref b :: rest))) : W p l e R s m args below meth c H locs cells slots Q (F0 m pc ls (.ref b :: rest)) := by
  have e : "[" ++ FieldType.byte.toString = "[B" := by decide +kernel
  have h := (hC.K.1.2 2 (D.1 102, .byte) rfl).2
  have h : s.vm.findClass ("[" ++ FieldType.byte.toString) = some (D.1 102) := h
  rw [e] at h
  exact va_castA hC.x hC.b hC.ow hlink hP q hq h hdg kk
theorem s_same (hs : PStr D w a bs) {bs' : List Int32} (ht : IsStr D A Hb Z w a bs') (hZ : Z s) (hP : va_P D gCl w H) (hD : va_D A w) : bs = bs' := by
  obtain ⟨hl, q, b, h, z, h1, q', h2⟩ := hs
  rcases ht with ⟨hl', p, b', h', z', g1, p', g2⟩ | ⟨-, b', g⟩
  · have e := hD.1 q p _ _ h1 g1 rfl
    subst e
    have e := Option.some.inj (h1.symm.trans g1)
    have e : b = b' := by
      have := congrArg (fun x : Nat × va_E => match x.2 with | .inr y => y.2 | _ => []) e
      have := congrArg (fun x : List Value => x.head?) this
      have : some (Value.ref b) = some (Value.ref b') := this
      cases this
      rfl
    subst e
    have e := hD.1 q' p' _ _ h2 g2 rfl
    subst e
    have e := Option.some.inj (h2.symm.trans g2)
    have e := congrArg (fun x : Nat × va_E => match x.2 with | .inl y => (y.2.1, match y.2.2 with | .inl f => f | _ => fun _ => 0) | _ => (0, fun _ => 0)) e
    have e1 : bs.length = bs'.length := congrArg Prod.fst e
    have e2 : (fun j => bs.getD j 0) = (fun j => bs'.getD j 0) := congrArg Prod.snd e
    refine List.ext_getElem e1 fun i i1 i2 => ?_
    have := congrFun e2 i
    simpa [List.getD_eq_getElem?_getD, i1, i2] using this
  · obtain ⟨cell, -, -, -, g4⟩ := (g s hZ).1
    exact absurd (hD.2 q _ h1) g4
theorem s_cs (hC : CX RJ3 cc nL ret0 D gCl nwG Z Hb A p s m args meth c) (hZ : ∀ U, Z U → zS adK adV A Hb U) (hS : va_S A s.heap H locs) (hdg : decode cc pc = .ok (.getstatic 38, 3)) (kk : W p l e R s m args below meth c H locs cells slots Q (F0 m (pc + 3) ls (.int 1 :: rest))) : W p l e R s m args below meth c H locs cells slots Q (F0 m pc ls (rest)) :=
  va_gets (C := "java/lang/String") (n := "COMPACT_STRINGS") (d := "Z") hC.x hC.b ((hZ s hC.K.2.2.2).2.1.kept hC.ag) hS hC.ow (hC.ts _ q550) (fun _ h9 => h9) hdg kk
theorem s_fmt (hC : CX RJ3 cc nL ret0 D gCl nwG Z Hb A p s m args meth c) (hZ : ∀ U, Z U → zS adK adV A Hb U) (hS : va_S A s.heap H locs) (hdg : decode cc pc = .ok (.getstatic 1053, 3)) (kk : ∀ o : Option Nat, W p l e R s m args below meth c H locs cells slots Q (F0 m (pc + 3) ls (va_rf o :: rest))) : W p l e R s m args below meth c H locs cells slots Q (F0 m pc ls (rest)) := by
  obtain ⟨o, h⟩ := (hZ s hC.K.2.2.2).2.2.1
  exact va_gets (C := "jdk/internal/util/Preconditions") (n := "SIOOBE_FORMATTER") (d := "Ljava/util/function/BiFunction;") hC.x hC.b (h.kept hC.ag) hS hC.ow (hC.ts _ q540) (fun _ h9 => h9) hdg (kk o)
end SROWS
def va_Qo {S : Type} (post : Option Nat → S → Prop) (B : S → State → Prop) (A : Nat → Prop) : Array Value → State → Outcome → State → Prop := fun _ st oc t => (∃ (r : Option Nat) (u : S), oc = .returned (some (va_rf r)) ∧ post r u ∧ B u t) ∧ va_F A st t
section SRUN
variable {p : Program} {l : Launch} {e : Env} {R : Room} {s : State} {m : MethodId} {args : Array Value} {below : List Frame} {meth : Method} {c : Code} {H : Heap} {locs : List Loc} {cells slots : Nat} {Q : State → Prop}
variable {own C : String} {cc bytes : ByteArray} {nL maxL index mc ms pc : Nat} {ret0 ret : Option FieldType} {D : va_G} {cl : List vw_C} {nw : List Cond} {Z : State → Prop} {Hb : Heap} {A : Nat → Prop} {y : MethodName} {rm : Room} {b : Addr} {As rest st0 : List Value} {w : va_W} {Qc : Array Value → State → Outcome → State → Prop} {ls : Array Slot}
/-- a call by a receiver whose cell is known -/
theorem run_Vc (hC : CX own cc nL ret0 D cl nw Z Hb A p s m args meth c) (hM : Met l y (ws_ y bytes maxL ret) rm (va_Pc (.ref b :: As) (PcG D cl nw Z Hb A w)) Qc mc ms A) (hq : GoodIn lw_all (wsV own index C y (ws_ y bytes maxL ret)))
    (hd : y.cls = C ∧ y.cls ≠ "java/lang/invoke/MethodHandle" ∧ y.cls ≠ "java/lang/invoke/VarHandle" ∧ (parseMethodDescriptor y.desc).map (fun d => d.parameters.length) = some As.length)
    (hcell : ∃ cell : Cell, H[b]? = some cell ∧ cell.vm.isStatics = false ∧ s.vm.findClass C = some cell.cls)
    (hrm : rm.cells = mc ∧ rm.slots = ms ∧ rm.frames + 1 ≤ R.frames ∧ 8 + (maxL + 11) + rm.locals ≤ R.locals) (hf : cells + mc ≤ R.cells ∧ slots + ms ≤ R.slots)
    (hP : va_P D cl w H) (hD : va_D A w) (hS : va_S A s.heap H locs) (hl : ls.size = nL) (hst : (rest.map fun v => v.category).sum ≤ 8) (hdg : decode cc pc = .ok (.invokevirtual index, 3)) (hstk : st0 = As.reverse ++ .ref b :: rest) :
    va_Run p l e R s m args below meth c H locs cells slots mc ms (F0 m pc ls st0) rest (Qc (Value.ref b :: As).toArray) A := by
  refine va_runV ⟨hC.x, hC.b, hC.ml, hC.ow, hC.ts⟩ hM (cwV As.length hC.ts hq rfl hrm.1 hrm.2.1 hd hrm.2.2) ⟨pcG_blind, hcell, ?_⟩ rfl rfl hl hstk (lv_room hst) hdg hf
  intro U hU hW
  exact ⟨rfl, by rw [hU]; exact hP, hD, hC.K.moved hW, fun q hq => hC.aA q (Nat.le_trans hS.1 (by rw [← hU]; exact hq)), by rw [hU]; exact hC.ag.on hC.aA hS⟩
variable {T : Type} {wf : T → va_W} {a : Array Value}
theorem go_o {post : Option Nat → T → Prop} (hr : va_Run p l e R s m args below meth c H locs cells slots mc ms (F0 m pc ls st0) rest (va_Qo post (BW D cl A wf) A a) A) (hS : va_S A s.heap H locs)
    (kk : ∀ (r : Option Nat) (u : T) (H1 : Heap) (locs1 : List Loc), post r u → va_P D cl (wf u) H1 → va_D A (wf u) → va_S A s.heap H1 locs1 → W p l e R s m args below meth c H1 locs1 (cells + mc) (slots + ms) Q (F0 m (pc + 3) ls (va_rf r :: rest))) : W p l e R s m args below meth c H locs cells slots Q (F0 m pc ls st0) := by
  intro T0 hT X
  obtain ⟨v, st₀, t, T', L, h0, X', hL, e1, e2, ⟨⟨r, u, hv, hp, hB⟩, hz, hk⟩, st⟩ := hr T0 hT X
  cases hv
  rw [h0] at hz hk
  have hS1 : va_S A s.heap T'.heap (locs ++ L) := ⟨Nat.le_trans hS.1 (by rw [e1]; exact hz), fun q h1 h2 => by rw [e1, hk q (Nat.lt_of_lt_of_le h1 hS.1) h2]; exact hS.2.1 q h1 h2, fun q hq => by
    rcases List.mem_append.mp hq with h | h
    · exact hS.2.2 q h
    · exact hL q h⟩
  obtain ⟨t2, a1, b1⟩ := kk r u T'.heap (locs ++ L) hp (by rw [e1]; exact hB.1) hB.2 hS1 T' rfl X'
  exact ⟨t2, st t2 a1, b1⟩
theorem rt_o {post : Option Nat → T → Prop} {r : Option Nat} {u : T} {rt : FieldType} (hC : CX own cc nL (some rt) D cl nw Z Hb A p s m args meth c) (hrt : (∃ n, rt = .object n) ∨ ∃ t, rt = .array t) (hw : post r u) (hP : va_P D cl (wf u) H) (hD : va_D A (wf u)) (hS : va_S A s.heap H locs) (hdg : decode cc pc = .ok (.areturn, 1)) :
    W p l e R s m args below meth c H locs cells slots (MQ below (va_Qo post (BW D cl A wf) A) args s cells slots A) (F0 m pc ls [va_rf r]) :=
  W.aret (v := va_rf r) hC.x hC.b hC.r hrt (by cases r with | none => exact Or.inl rfl | some a => exact Or.inr ⟨a, rfl⟩) (fun t ht _ => ⟨⟨r, u, rfl, hw, by rw [ht]; exact hP, hD⟩, hS.F ht⟩) hS.2.2 hdg hC.lk
theorem rt_n {post : Int32 → T → Prop} {v : Int32} {u : T} {rt : FieldType} (hC : CX own cc nL (some rt) D cl nw Z Hb A p s m args meth c) (hn : narrow rt (.int v) = .int v) (hw : post v u) (hP : va_P D cl (wf u) H) (hD : va_D A (wf u)) (hS : va_S A s.heap H locs) (hdg : decode cc pc = .ok (.ireturn, 1)) :
    W p l e R s m args below meth c H locs cells slots (MQ below (va_Qi post (BW D cl A wf) A) args s cells slots A) (F0 m pc ls [.int v]) :=
  W.zret (v := v) hC.x hC.b hC.r hn (fun t ht _ => ⟨⟨v, u, rfl, hw, by rw [ht]; exact hP, hD⟩, hS.F ht⟩) hS.2.2 hdg hC.lk
end SRUN
