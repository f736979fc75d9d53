set_option maxRecDepth 100000
section IWb
variable {p : Program} {l : Launch} {e : Env} {s : State} {m : MethodId} {args : Array Value} {below : List Frame} {meth : Method} {c : Code} {D : va_G} {Z : State → Prop} {Hb : Heap} {A : Nat → Prop}
def zThr (A : Nat → Prop) (Hb : Heap) (U : State) : Prop := (∃ o : Option Nat, va_Z "java/lang/Throwable" "UNASSIGNED_STACK" "[Ljava/lang/StackTraceElement;" (va_rf o) A U Hb) ∧ ∃ o : Option Nat, va_Z "java/lang/Throwable" "SUPPRESSED_SENTINEL" "Ljava/util/List;" (va_rf o) A U Hb
set_option maxHeartbeats 4000000 in
theorem nJ0_init_2 (l : Launch) {w : va_W} {a0 : Nat} (hZ : ∀ U, Z U → zThr A Hb U) : Met l yJ0_init_2 (ws_ yJ0_init_2 cJ0_init_2 5 none) ({ frames := 1, cells := 0, slots := 0, locals := 60 } : Room) (va_Pc [.ref a0, .null, .null, .int 0, .int 0] (PcG D gCl nwG Z Hb A (w ++ [(a0, .inr (2, [.null, .null, .null, .null, .null, .int 0, .int 0, .int 0]))]))) (va_Qv (fun (_ : Nat → Nat) => True) (BW D gCl A (fun u => w ++ [(a0, .inr (2, [.null, .null, .null, .null, .null, .int 0, .int 0, .int 0]))])) A) 0 0 A := by
  refine Met.ofG (by decide) (Nat.le_of_ble_eq_true rfl) ?_
  intro p e s m below meth c ls hC hin hP hD hS hl
  have hC : CX RJ0 cJ0_init_2 5 none D gCl nwG Z Hb A p s m _ meth c := hC
  have hl : lv_has ls 5 [(0, .ref a0), (1, .null), (2, .null), (3, .int 0), (4, .int 0)] := hl
  obtain ⟨⟨o1, z1⟩, ⟨o2, z2⟩⟩ := hZ s hC.K.2.2.2
  have z1 := z1.kept hC.ag
  have z2 := z2.kept hC.ag
  refine lv_aload_n hC.x hC.b dJ0_init_2_0 rfl (lv_at hl 0 rfl) ?_
  refine W.objInit hC.x hC.b hC.ow (hC.ts _ q183) (hC.ts _ q150) (hC.ts _ q151) rfl (by rw [hC.ml]; exact hl.1) rfl dJ0_init_2_1 (Nat.le_of_ble_eq_true rfl) (Nat.le_of_ble_eq_true rfl) ?_
  refine W.eq (g2 := F0 m 4 ls []) rfl ?_
  refine lv_aload_n hC.x hC.b dJ0_init_2_4 rfl (lv_at hl 0 rfl) ?_
  refine lv_aload_n hC.x hC.b dJ0_init_2_5 rfl (lv_at hl 0 rfl) ?_
  refine va_put (D := D) (ci := 2) (fs := [.null, .null, .null, .null, .null, .int 0, .int 0, .int 0]) (v := .ref a0) (ty := (.object "java/lang/Throwable")) (C := RX3) (T := TX3) (N := 8) hC.x hC.b hC.ts in_X3 tyX3 tyX3_ok nmX3 hC.ow hC.K.1 hP hD hS (w.length + 0) (ap_at w _ 0) gCl_X3 0 (by decide) (hC.ts _ q216) (fun _ h9 => h9) rfl (by decide +kernel) rfl rfl (Nat.le_of_ble_eq_true rfl) dJ0_init_2_6 (fun H locs hP hD hS => ?_)
  rw [ap_set] at hP hD
  have hP : va_P D gCl (w ++ [(a0, .inr (2, [.ref a0, .null, .null, .null, .null, .int 0, .int 0, .int 0]))]) H := hP
  have hD : va_D A (w ++ [(a0, .inr (2, [.ref a0, .null, .null, .null, .null, .int 0, .int 0, .int 0]))]) := hD
  refine lv_aload_n hC.x hC.b dJ0_init_2_9 rfl (lv_at hl 0 rfl) ?_
  refine va_gets (C := "java/lang/Throwable") (n := "UNASSIGNED_STACK") (d := "[Ljava/lang/StackTraceElement;") hC.x hC.b z1 hS hC.ow (hC.ts _ q184) (fun _ h9 => h9) dJ0_init_2_10 ?_
  refine va_put (D := D) (ci := 2) (fs := [.ref a0, .null, .null, .null, .null, .int 0, .int 0, .int 0]) (v := va_rf o1) (ty := (.array (.object "java/lang/StackTraceElement"))) (C := RX3) (T := TX3) (N := 8) hC.x hC.b hC.ts in_X3 tyX3 tyX3_ok nmX3 hC.ow hC.K.1 hP hD hS (w.length + 0) (ap_at w _ 0) gCl_X3 1 (by decide) (hC.ts _ q217) (fun _ h9 => h9) rfl (by decide +kernel) (by cases o1 <;> rfl) (by cases o1 <;> rfl) (Nat.le_of_ble_eq_true rfl) dJ0_init_2_13 (fun H locs hP hD hS => ?_)
  rw [ap_set] at hP hD
  have hP : va_P D gCl (w ++ [(a0, .inr (2, [.ref a0, va_rf o1, .null, .null, .null, .int 0, .int 0, .int 0]))]) H := hP
  have hD : va_D A (w ++ [(a0, .inr (2, [.ref a0, va_rf o1, .null, .null, .null, .int 0, .int 0, .int 0]))]) := hD
  refine lv_aload_n hC.x hC.b dJ0_init_2_16 rfl (lv_at hl 0 rfl) ?_
  refine va_gets (C := "java/lang/Throwable") (n := "SUPPRESSED_SENTINEL") (d := "Ljava/util/List;") hC.x hC.b z2 hS hC.ow (hC.ts _ q186) (fun _ h9 => h9) dJ0_init_2_17 ?_
  refine va_put (D := D) (ci := 2) (fs := [.ref a0, va_rf o1, .null, .null, .null, .int 0, .int 0, .int 0]) (v := va_rf o2) (ty := (.object "java/util/List")) (C := RX3) (T := TX3) (N := 8) hC.x hC.b hC.ts in_X3 tyX3 tyX3_ok nmX3 hC.ow hC.K.1 hP hD hS (w.length + 0) (ap_at w _ 0) gCl_X3 2 (by decide) (hC.ts _ q218) (fun _ h9 => h9) rfl (by decide +kernel) (by cases o2 <;> rfl) (by cases o2 <;> rfl) (Nat.le_of_ble_eq_true rfl) dJ0_init_2_20 (fun H locs hP hD hS => ?_)
  rw [ap_set] at hP hD
  have hP : va_P D gCl (w ++ [(a0, .inr (2, [.ref a0, va_rf o1, va_rf o2, .null, .null, .int 0, .int 0, .int 0]))]) H := hP
  have hD : va_D A (w ++ [(a0, .inr (2, [.ref a0, va_rf o1, va_rf o2, .null, .null, .int 0, .int 0, .int 0]))]) := hD
  refine lv_iload hC.x hC.b dJ0_init_2_23 (lv_at hl 4 rfl) ?_
  refine lv_if_eq (tgt := 36) hC.x hC.b dJ0_init_2_25 (by decide) (fun _ => ?_) (fun c => absurd (by decide) c)
  refine lv_aload_n hC.x hC.b dJ0_init_2_36 rfl (lv_at hl 0 rfl) ?_
  refine lv_null hC.x hC.b dJ0_init_2_37 ?_
  refine va_put (D := D) (ci := 2) (fs := [.ref a0, va_rf o1, va_rf o2, .null, .null, .int 0, .int 0, .int 0]) (v := .null) (ty := (.array (.object "java/lang/StackTraceElement"))) (C := RX3) (T := TX3) (N := 8) hC.x hC.b hC.ts in_X3 tyX3 tyX3_ok nmX3 hC.ow hC.K.1 hP hD hS (w.length + 0) (ap_at w _ 0) gCl_X3 1 (by decide) (hC.ts _ q217) (fun _ h9 => h9) rfl (by decide +kernel) rfl rfl (Nat.le_of_ble_eq_true rfl) dJ0_init_2_38 (fun H locs hP hD hS => ?_)
  rw [ap_set] at hP hD
  have hP : va_P D gCl (w ++ [(a0, .inr (2, [.ref a0, .null, va_rf o2, .null, .null, .int 0, .int 0, .int 0]))]) H := hP
  have hD : va_D A (w ++ [(a0, .inr (2, [.ref a0, .null, va_rf o2, .null, .null, .int 0, .int 0, .int 0]))]) := hD
  refine lv_aload_n hC.x hC.b dJ0_init_2_41 rfl (lv_at hl 0 rfl) ?_
  refine lv_aload_nN hC.x hC.b dJ0_init_2_42 rfl (lv_at hl 1 rfl) ?_
  refine va_put (D := D) (ci := 2) (fs := [.ref a0, .null, va_rf o2, .null, .null, .int 0, .int 0, .int 0]) (v := .null) (ty := (.object "java/lang/String")) (C := RX3) (T := TX3) (N := 8) hC.x hC.b hC.ts in_X3 tyX3 tyX3_ok nmX3 hC.ow hC.K.1 hP hD hS (w.length + 0) (ap_at w _ 0) gCl_X3 3 (by decide) (hC.ts _ q215) (fun _ h9 => h9) rfl (by decide +kernel) rfl rfl (Nat.le_of_ble_eq_true rfl) dJ0_init_2_43 (fun H locs hP hD hS => ?_)
  rw [ap_set] at hP hD
  have hP : va_P D gCl (w ++ [(a0, .inr (2, [.ref a0, .null, va_rf o2, .null, .null, .int 0, .int 0, .int 0]))]) H := hP
  have hD : va_D A (w ++ [(a0, .inr (2, [.ref a0, .null, va_rf o2, .null, .null, .int 0, .int 0, .int 0]))]) := hD
  refine lv_aload_n hC.x hC.b dJ0_init_2_46 rfl (lv_at hl 0 rfl) ?_
  refine lv_aload_nN hC.x hC.b dJ0_init_2_47 rfl (lv_at hl 2 rfl) ?_
  refine va_put (D := D) (ci := 2) (fs := [.ref a0, .null, va_rf o2, .null, .null, .int 0, .int 0, .int 0]) (v := .null) (ty := (.object "java/lang/Throwable")) (C := RX3) (T := TX3) (N := 8) hC.x hC.b hC.ts in_X3 tyX3 tyX3_ok nmX3 hC.ow hC.K.1 hP hD hS (w.length + 0) (ap_at w _ 0) gCl_X3 0 (by decide) (hC.ts _ q216) (fun _ h9 => h9) rfl (by decide +kernel) rfl rfl (Nat.le_of_ble_eq_true rfl) dJ0_init_2_48 (fun H locs hP hD hS => ?_)
  rw [ap_set] at hP hD
  have hP : va_P D gCl (w ++ [(a0, .inr (2, [.null, .null, va_rf o2, .null, .null, .int 0, .int 0, .int 0]))]) H := hP
  have hD : va_D A (w ++ [(a0, .inr (2, [.null, .null, va_rf o2, .null, .null, .int 0, .int 0, .int 0]))]) := hD
  refine lv_iload_n hC.x hC.b dJ0_init_2_51 rfl (lv_at hl 3 rfl) ?_
  refine lv_if_ne (tgt := 60) hC.x hC.b dJ0_init_2_52 (by decide) (fun c => absurd c (by decide)) (fun _ => ?_)
  refine lv_aload_n hC.x hC.b dJ0_init_2_55 rfl (lv_at hl 0 rfl) ?_
  refine lv_null hC.x hC.b dJ0_init_2_56 ?_
  refine va_put (D := D) (ci := 2) (fs := [.null, .null, va_rf o2, .null, .null, .int 0, .int 0, .int 0]) (v := .null) (ty := (.object "java/util/List")) (C := RX3) (T := TX3) (N := 8) hC.x hC.b hC.ts in_X3 tyX3 tyX3_ok nmX3 hC.ow hC.K.1 hP hD hS (w.length + 0) (ap_at w _ 0) gCl_X3 2 (by decide) (hC.ts _ q218) (fun _ h9 => h9) rfl (by decide +kernel) rfl rfl (Nat.le_of_ble_eq_true rfl) dJ0_init_2_57 (fun H locs hP hD hS => ?_)
  rw [ap_set] at hP hD
  have hP : va_P D gCl (w ++ [(a0, .inr (2, [.null, .null, .null, .null, .null, .int 0, .int 0, .int 0]))]) H := hP
  have hD : va_D A (w ++ [(a0, .inr (2, [.null, .null, .null, .null, .null, .int 0, .int 0, .int 0]))]) := hD
  exact rt_v (u := fun j => [a0].getD j 0) hC trivial hP hD hS dJ0_init_2_60
set_option maxHeartbeats 4000000 in
theorem nJ1_init (l : Launch) {w : va_W} {a0 : Nat} (hZ : ∀ U, Z U → zThr A Hb U) : Met l yJ1_init (ws_ yJ1_init cJ1_init 5 none) ({ frames := 2, cells := 0, slots := 0, locals := 84 } : Room) (va_Pc [.ref a0, .null, .null, .int 0, .int 0] (PcG D gCl nwG Z Hb A (w ++ [(a0, .inr (2, [.null, .null, .null, .null, .null, .int 0, .int 0, .int 0]))]))) (va_Qv (fun (_ : Nat → Nat) => True) (BW D gCl A (fun u => w ++ [(a0, .inr (2, [.null, .null, .null, .null, .null, .int 0, .int 0, .int 0]))])) A) 0 0 A := by
  refine Met.ofG (by decide) (Nat.le_of_ble_eq_true rfl) ?_
  intro p e s m below meth c ls hC hin hP hD hS hl
  have hC : CX RJ1 cJ1_init 5 none D gCl nwG Z Hb A p s m _ meth c := hC
  have hl : lv_has ls 5 [(0, .ref a0), (1, .null), (2, .null), (3, .int 0), (4, .int 0)] := hl
  refine lv_aload_n hC.x hC.b dJ1_init_0 rfl (lv_at hl 0 rfl) ?_
  refine lv_aload_nN hC.x hC.b dJ1_init_1 rfl (lv_at hl 1 rfl) ?_
  refine lv_aload_nN hC.x hC.b dJ1_init_2 rfl (lv_at hl 2 rfl) ?_
  refine lv_iload_n hC.x hC.b dJ1_init_3 rfl (lv_at hl 3 rfl) ?_
  refine lv_iload hC.x hC.b dJ1_init_4 (lv_at hl 4 rfl) ?_
  refine go_v (run_I (rest := []) hC (nJ0_init_2 l (w := w) hZ) q207 ⟨q209, q120, q208⟩ ⟨by decide +kernel, by decide +kernel, by show _ = some 4; decide +kernel⟩ rfl ⟨rfl, rfl, Nat.le_of_ble_eq_true rfl, Nat.le_of_ble_eq_true rfl⟩ ⟨Nat.le_of_ble_eq_true rfl, Nat.le_of_ble_eq_true rfl⟩ hP hD hS hl.1 (Nat.le_of_ble_eq_true rfl) dJ1_init_6 rfl) hS (fun u1 H locs _ hP hD hS => ?_)
  have hP : va_P D gCl (w ++ [(a0, .inr (2, [.null, .null, .null, .null, .null, .int 0, .int 0, .int 0]))]) H := hP
  have hD : va_D A (w ++ [(a0, .inr (2, [.null, .null, .null, .null, .null, .int 0, .int 0, .int 0]))]) := hD
  exact rt_v (u := fun j => [a0].getD j 0) hC trivial hP hD hS dJ1_init_9
set_option maxHeartbeats 4000000 in
theorem nJ2_init (l : Launch) {w : va_W} {a0 : Nat} (hZ : ∀ U, Z U → zThr A Hb U) : Met l yJ2_init (ws_ yJ2_init cJ2_init 5 none) ({ frames := 3, cells := 0, slots := 0, locals := 108 } : Room) (va_Pc [.ref a0, .null, .null, .int 0, .int 0] (PcG D gCl nwG Z Hb A (w ++ [(a0, .inr (2, [.null, .null, .null, .null, .null, .int 0, .int 0, .int 0]))]))) (va_Qv (fun (_ : Nat → Nat) => True) (BW D gCl A (fun u => w ++ [(a0, .inr (2, [.null, .null, .null, .null, .null, .int 0, .int 0, .int 0]))])) A) 0 0 A := by
  refine Met.ofG (by decide) (Nat.le_of_ble_eq_true rfl) ?_
  intro p e s m below meth c ls hC hin hP hD hS hl
  have hC : CX RJ2 cJ2_init 5 none D gCl nwG Z Hb A p s m _ meth c := hC
  have hl : lv_has ls 5 [(0, .ref a0), (1, .null), (2, .null), (3, .int 0), (4, .int 0)] := hl
  refine lv_aload_n hC.x hC.b dJ2_init_0 rfl (lv_at hl 0 rfl) ?_
  refine lv_aload_nN hC.x hC.b dJ2_init_1 rfl (lv_at hl 1 rfl) ?_
  refine lv_aload_nN hC.x hC.b dJ2_init_2 rfl (lv_at hl 2 rfl) ?_
  refine lv_iload_n hC.x hC.b dJ2_init_3 rfl (lv_at hl 3 rfl) ?_
  refine lv_iload hC.x hC.b dJ2_init_4 (lv_at hl 4 rfl) ?_
  refine go_v (run_I (rest := []) hC (nJ1_init l (w := w) hZ) q204 ⟨q206, q121, q205⟩ ⟨by decide +kernel, by decide +kernel, by show _ = some 4; decide +kernel⟩ rfl ⟨rfl, rfl, Nat.le_of_ble_eq_true rfl, Nat.le_of_ble_eq_true rfl⟩ ⟨Nat.le_of_ble_eq_true rfl, Nat.le_of_ble_eq_true rfl⟩ hP hD hS hl.1 (Nat.le_of_ble_eq_true rfl) dJ2_init_6 rfl) hS (fun u1 H locs _ hP hD hS => ?_)
  have hP : va_P D gCl (w ++ [(a0, .inr (2, [.null, .null, .null, .null, .null, .int 0, .int 0, .int 0]))]) H := hP
  have hD : va_D A (w ++ [(a0, .inr (2, [.null, .null, .null, .null, .null, .int 0, .int 0, .int 0]))]) := hD
  exact rt_v (u := fun j => [a0].getD j 0) hC trivial hP hD hS dJ2_init_9
set_option maxHeartbeats 4000000 in
theorem n3_init (l : Launch) {w : va_W} {a0 : Nat} (hZ : ∀ U, Z U → zThr A Hb U) : Met l yX3_init (ws_ yX3_init cX3_init 1 none) ({ frames := 4, cells := 0, slots := 0, locals := 132 } : Room) (va_Pc [.ref a0] (PcG D gCl nwG Z Hb A (w ++ [(a0, .inr (2, [.null, .null, .null, .null, .null, .int 0, .int 0, .int 0]))]))) (va_Qv (fun (_ : Nat → Nat) => True) (BW D gCl A (fun u => w ++ [(a0, .inr (2, [.null, .null, .null, .null, .null, .int 0, .int 0, .int (-1)]))])) A) 0 0 A := by
  refine Met.ofG (by decide) (Nat.le_of_ble_eq_true rfl) ?_
  intro p e s m below meth c ls hC hin hP hD hS hl
  have hC : CX RX3 cX3_init 1 none D gCl nwG Z Hb A p s m _ meth c := hC
  have hl : lv_has ls 1 [(0, .ref a0)] := hl
  refine lv_aload_n hC.x hC.b dX3_init_0 rfl (lv_at hl 0 rfl) ?_
  refine lv_null hC.x hC.b dX3_init_1 ?_
  refine lv_null hC.x hC.b dX3_init_2 ?_
  refine lv_iconst (v := 0) hC.x hC.b dX3_init_3 (by decide) ?_
  refine lv_iconst (v := 0) hC.x hC.b dX3_init_4 (by decide) ?_
  refine go_v (run_I (rest := []) hC (nJ2_init l (w := w) hZ) q201 ⟨q203, q122, q202⟩ ⟨by decide +kernel, by decide +kernel, by show _ = some 4; decide +kernel⟩ rfl ⟨rfl, rfl, Nat.le_of_ble_eq_true rfl, Nat.le_of_ble_eq_true rfl⟩ ⟨Nat.le_of_ble_eq_true rfl, Nat.le_of_ble_eq_true rfl⟩ hP hD hS hl.1 (Nat.le_of_ble_eq_true rfl) dX3_init_5 rfl) hS (fun u1 H locs _ hP hD hS => ?_)
  have hP : va_P D gCl (w ++ [(a0, .inr (2, [.null, .null, .null, .null, .null, .int 0, .int 0, .int 0]))]) H := hP
  have hD : va_D A (w ++ [(a0, .inr (2, [.null, .null, .null, .null, .null, .int 0, .int 0, .int 0]))]) := hD
  refine lv_aload_n hC.x hC.b dX3_init_8 rfl (lv_at hl 0 rfl) ?_
  refine lv_iconst (v := (-1)) hC.x hC.b dX3_init_9 (by decide) ?_
  refine va_put (D := D) (ci := 2) (fs := [.null, .null, .null, .null, .null, .int 0, .int 0, .int 0]) (v := .int (-1)) (ty := (.int)) (C := RX3) (T := TX3) (N := 8) hC.x hC.b hC.ts in_X3 tyX3 tyX3_ok nmX3 hC.ow hC.K.1 hP hD hS (w.length + 0) (ap_at w _ 0) gCl_X3 7 (by decide) (hC.ts _ q212) (fun _ h9 => h9) rfl (by decide +kernel) rfl rfl (Nat.le_of_ble_eq_true rfl) dX3_init_10 (fun H locs hP hD hS => ?_)
  rw [ap_set] at hP hD
  have hP : va_P D gCl (w ++ [(a0, .inr (2, [.null, .null, .null, .null, .null, .int 0, .int 0, .int (-1)]))]) H := hP
  have hD : va_D A (w ++ [(a0, .inr (2, [.null, .null, .null, .null, .null, .int 0, .int 0, .int (-1)]))]) := hD
  exact rt_v (u := fun j => [a0].getD j 0) hC trivial hP hD hS dX3_init_13
set_option maxHeartbeats 4000000 in
theorem n2_init (l : Launch) {w : va_W} {a0 : Nat} {tx : Nat} (hZ : ∀ U, Z U → zThr A Hb U) : Met l yX2_init (ws_ yX2_init cX2_init 2 none) ({ frames := 5, cells := 2, slots := 16, locals := 152 } : Room) (va_Pc [.ref a0, .ref tx] (PcG D gCl nwG Z Hb A (w ++ [(a0, .inr (1, [.null, .null, .null, .int 0, .int 0, .int 0, .int 0, .int 0, .null, .null]))]))) (va_Qv (fun (_ : Nat → Nat) => True) (BW D gCl A (fun u => w ++ [(a0, .inr (1, [.ref (u 1), .ref tx, .ref (u 2), .int 0, .int 0, .int 0, .int 0, .int 0, .null, .null])), ((u 1), .inr (2, [.null, .null, .null, .null, .null, .int 0, .int 0, .int (-1)])), ((u 2), .inl (D.1 103, 8, .inl (fun _ => 0)))])) A) 2 16 A := by
  refine Met.ofG (by decide) (Nat.le_of_ble_eq_true rfl) ?_
  intro p e s m below meth c ls hC hin hP hD hS hl
  have hC : CX RX2 cX2_init 2 none D gCl nwG Z Hb A p s m _ meth c := hC
  have hl : lv_has ls 2 [(0, .ref a0), (1, .ref tx)] := hl
  refine lv_aload_n hC.x hC.b dX2_init_0 rfl (lv_at hl 0 rfl) ?_
  refine W.objInit hC.x hC.b hC.ow (hC.ts _ q157) (hC.ts _ q150) (hC.ts _ q151) rfl (by rw [hC.ml]; exact hl.1) rfl dX2_init_1 (Nat.le_of_ble_eq_true rfl) (Nat.le_of_ble_eq_true rfl) ?_
  refine W.eq (g2 := F0 m 4 ls []) rfl ?_
  refine lv_aload_n hC.x hC.b dX2_init_4 rfl (lv_at hl 0 rfl) ?_
  refine va_new (ci := 2) (fs := [.null, .null, .null, .null, .null, .int 0, .int 0, .int 0]) (C := RX3) (T := TX3) (N := 8) hC.x hC.b hC.ts in_X3 tyX3 tyX3_ok hC.ow (hC.ts _ q158) (hC.ts _ q159) (hC.ts _ q123) hC.K.1 hP hD hS hC.aA gCl_X3 (fun j hj => by rcases nle8 j hj with rfl | rfl | rfl | rfl | rfl | rfl | rfl | rfl <;> rfl) (Nat.le_of_ble_eq_true rfl) (Nat.le_of_ble_eq_true rfl) dX2_init_5 (fun q1 H hP hD hS => ?_)
  have hP : va_P D gCl (w ++ [(a0, .inr (1, [.null, .null, .null, .int 0, .int 0, .int 0, .int 0, .int 0, .null, .null])), (q1, .inr (2, [.null, .null, .null, .null, .null, .int 0, .int 0, .int 0]))]) H := by rw [List.append_assoc] at hP; exact hP
  have hD : va_D A (w ++ [(a0, .inr (1, [.null, .null, .null, .int 0, .int 0, .int 0, .int 0, .int 0, .null, .null])), (q1, .inr (2, [.null, .null, .null, .null, .null, .int 0, .int 0, .int 0]))]) := by rw [List.append_assoc] at hD; exact hD
  refine lv_dup hC.x hC.b dX2_init_8 rfl ?_
  have hP : va_P D gCl ((w ++ [(a0, .inr (1, [.null, .null, .null, .int 0, .int 0, .int 0, .int 0, .int 0, .null, .null]))]) ++ [(q1, .inr (2, [.null, .null, .null, .null, .null, .int 0, .int 0, .int 0]))]) H := by rw [List.append_assoc]; exact hP
  have hD : va_D A ((w ++ [(a0, .inr (1, [.null, .null, .null, .int 0, .int 0, .int 0, .int 0, .int 0, .null, .null]))]) ++ [(q1, .inr (2, [.null, .null, .null, .null, .null, .int 0, .int 0, .int 0]))]) := by rw [List.append_assoc]; exact hD
  refine go_v (run_I (rest := [.ref q1, .ref a0]) hC (n3_init l (w := (w ++ [(a0, .inr (1, [.null, .null, .null, .int 0, .int 0, .int 0, .int 0, .int 0, .null, .null]))])) hZ) q198 ⟨q200, q123, q199⟩ ⟨by decide +kernel, by decide +kernel, by show _ = some 0; decide +kernel⟩ rfl ⟨rfl, rfl, Nat.le_of_ble_eq_true rfl, Nat.le_of_ble_eq_true rfl⟩ ⟨Nat.le_of_ble_eq_true rfl, Nat.le_of_ble_eq_true rfl⟩ hP hD hS hl.1 (Nat.le_of_ble_eq_true rfl) dX2_init_9 rfl) hS (fun u2 H locs _ hP hD hS => ?_)
  rw [List.append_assoc] at hP hD
  have hP : va_P D gCl (w ++ [(a0, .inr (1, [.null, .null, .null, .int 0, .int 0, .int 0, .int 0, .int 0, .null, .null])), (q1, .inr (2, [.null, .null, .null, .null, .null, .int 0, .int 0, .int (-1)]))]) H := hP
  have hD : va_D A (w ++ [(a0, .inr (1, [.null, .null, .null, .int 0, .int 0, .int 0, .int 0, .int 0, .null, .null])), (q1, .inr (2, [.null, .null, .null, .null, .null, .int 0, .int 0, .int (-1)]))]) := hD
  refine va_putF (D := D) (ci := 1) (fs := [.null, .null, .null, .int 0, .int 0, .int 0, .int 0, .int 0, .null, .null]) (v := .ref q1) (ty := (.object "SeanceStreet$Refused")) (C := RX2) (T := TX2) (N := 10) hC.x hC.b hC.ts in_X2 tyX2 tyX2_ok nmX2 hC.ow hC.K.1 hP hD hS (w.length + 0) (ap_at w _ 0) gCl_X2 0 (by decide) (hC.ts _ q232) (fun _ h9 => h9) rfl hin rfl (by decide +kernel) rfl rfl (Nat.le_of_ble_eq_true rfl) dX2_init_12 (fun H locs hP hD hS => ?_)
  rw [ap_set] at hP hD
  have hP : va_P D gCl (w ++ [(a0, .inr (1, [.ref q1, .null, .null, .int 0, .int 0, .int 0, .int 0, .int 0, .null, .null])), (q1, .inr (2, [.null, .null, .null, .null, .null, .int 0, .int 0, .int (-1)]))]) H := hP
  have hD : va_D A (w ++ [(a0, .inr (1, [.ref q1, .null, .null, .int 0, .int 0, .int 0, .int 0, .int 0, .null, .null])), (q1, .inr (2, [.null, .null, .null, .null, .null, .int 0, .int 0, .int (-1)]))]) := hD
  refine lv_aload_n hC.x hC.b dX2_init_15 rfl (lv_at hl 0 rfl) ?_
  refine lv_bipush (v := 8) hC.x hC.b dX2_init_16 (by decide) ?_
  refine i_newC hC hP hD hS (N := 8) (by decide +kernel) (by decide +kernel) (Nat.le_of_ble_eq_true rfl) (Nat.le_of_ble_eq_true rfl) (Nat.le_of_ble_eq_true rfl) dX2_init_18 (fun q3 H hP hD hS => ?_)
  have hP : va_P D gCl (w ++ [(a0, .inr (1, [.ref q1, .null, .null, .int 0, .int 0, .int 0, .int 0, .int 0, .null, .null])), (q1, .inr (2, [.null, .null, .null, .null, .null, .int 0, .int 0, .int (-1)])), (q3, .inl (D.1 103, 8, .inl (fun _ => 0)))]) H := hP
  have hD : va_D A (w ++ [(a0, .inr (1, [.ref q1, .null, .null, .int 0, .int 0, .int 0, .int 0, .int 0, .null, .null])), (q1, .inr (2, [.null, .null, .null, .null, .null, .int 0, .int 0, .int (-1)])), (q3, .inl (D.1 103, 8, .inl (fun _ => 0)))]) := hD
  refine va_putF (D := D) (ci := 1) (fs := [.ref q1, .null, .null, .int 0, .int 0, .int 0, .int 0, .int 0, .null, .null]) (v := .ref q3) (ty := (.array .char)) (C := RX2) (T := TX2) (N := 10) hC.x hC.b hC.ts in_X2 tyX2 tyX2_ok nmX2 hC.ow hC.K.1 hP hD hS (w.length + 0) (ap_at w _ 0) gCl_X2 2 (by decide) (hC.ts _ q234) (fun _ h9 => h9) rfl hin rfl (by decide +kernel) rfl rfl (Nat.le_of_ble_eq_true rfl) dX2_init_20 (fun H locs hP hD hS => ?_)
  rw [ap_set] at hP hD
  have hP : va_P D gCl (w ++ [(a0, .inr (1, [.ref q1, .null, .ref q3, .int 0, .int 0, .int 0, .int 0, .int 0, .null, .null])), (q1, .inr (2, [.null, .null, .null, .null, .null, .int 0, .int 0, .int (-1)])), (q3, .inl (D.1 103, 8, .inl (fun _ => 0)))]) H := hP
  have hD : va_D A (w ++ [(a0, .inr (1, [.ref q1, .null, .ref q3, .int 0, .int 0, .int 0, .int 0, .int 0, .null, .null])), (q1, .inr (2, [.null, .null, .null, .null, .null, .int 0, .int 0, .int (-1)])), (q3, .inl (D.1 103, 8, .inl (fun _ => 0)))]) := hD
  refine lv_aload_n hC.x hC.b dX2_init_23 rfl (lv_at hl 0 rfl) ?_
  refine lv_aload_n hC.x hC.b dX2_init_24 rfl (lv_at hl 1 rfl) ?_
  refine va_putF (D := D) (ci := 1) (fs := [.ref q1, .null, .ref q3, .int 0, .int 0, .int 0, .int 0, .int 0, .null, .null]) (v := .ref tx) (ty := (.array .byte)) (C := RX2) (T := TX2) (N := 10) hC.x hC.b hC.ts in_X2 tyX2 tyX2_ok nmX2 hC.ow hC.K.1 hP hD hS (w.length + 0) (ap_at w _ 0) gCl_X2 1 (by decide) (hC.ts _ q233) (fun _ h9 => h9) rfl hin rfl (by decide +kernel) rfl rfl (Nat.le_of_ble_eq_true rfl) dX2_init_25 (fun H locs hP hD hS => ?_)
  rw [ap_set] at hP hD
  have hP : va_P D gCl (w ++ [(a0, .inr (1, [.ref q1, .ref tx, .ref q3, .int 0, .int 0, .int 0, .int 0, .int 0, .null, .null])), (q1, .inr (2, [.null, .null, .null, .null, .null, .int 0, .int 0, .int (-1)])), (q3, .inl (D.1 103, 8, .inl (fun _ => 0)))]) H := hP
  have hD : va_D A (w ++ [(a0, .inr (1, [.ref q1, .ref tx, .ref q3, .int 0, .int 0, .int 0, .int 0, .int 0, .null, .null])), (q1, .inr (2, [.null, .null, .null, .null, .null, .int 0, .int 0, .int (-1)])), (q3, .inl (D.1 103, 8, .inl (fun _ => 0)))]) := hD
  exact rt_v (u := fun j => [a0, q1, q3].getD j 0) hC trivial hP hD hS dX2_init_28
set_option maxHeartbeats 4000000 in
theorem n8_init_X9 (l : Launch) {w : va_W} {a0 : Nat} {ny : Nat} {ky : Int32} : Met l yX8_init (ws_ yX8_init cX8_init 3 none) ({ frames := 1, cells := 0, slots := 0, locals := 60 } : Room) (va_Pc [.ref a0, .ref ny, .int ky] (PcG D gCl nwG Z Hb A (w ++ [(a0, .inr (7, [.null, .int 0, .int 0]))]))) (va_Qv (fun (_ : Nat → Nat) => True) (BW D gCl A (fun u => w ++ [(a0, .inr (7, [.ref ny, .int ky, .int 0]))])) A) 0 0 A := by
  refine Met.ofG (by decide) (Nat.le_of_ble_eq_true rfl) ?_
  intro p e s m below meth c ls hC hin hP hD hS hl
  have hC : CX RX8 cX8_init 3 none D gCl nwG Z Hb A p s m _ meth c := hC
  have hl : lv_has ls 3 [(0, .ref a0), (1, .ref ny), (2, .int ky)] := hl
  refine lv_aload_n hC.x hC.b dX8_init_0 rfl (lv_at hl 0 rfl) ?_
  refine W.objInit hC.x hC.b hC.ow (hC.ts _ q748) (hC.ts _ q150) (hC.ts _ q151) rfl (by rw [hC.ml]; exact hl.1) rfl dX8_init_1 (Nat.le_of_ble_eq_true rfl) (Nat.le_of_ble_eq_true rfl) ?_
  refine W.eq (g2 := F0 m 4 ls []) rfl ?_
  refine lv_aload_n hC.x hC.b dX8_init_4 rfl (lv_at hl 0 rfl) ?_
  refine lv_aload_n hC.x hC.b dX8_init_5 rfl (lv_at hl 1 rfl) ?_
  refine va_putF (D := D) (ci := 7) (fs := [.null, .int 0, .int 0]) (v := .ref ny) (ty := (.object "java/lang/String")) (C := RX9) (T := TX9) (N := 3) hC.x hC.b hC.ts in_X9 tyX9 tyX9_ok nmX9 hC.ow hC.K.1 hP hD hS (w.length + 0) (ap_at w _ 0) gCl_X9 0 (by decide) (hC.ts _ q751) (fun _ h9 => h9) rfl hin rfl (by decide +kernel) rfl rfl (Nat.le_of_ble_eq_true rfl) dX8_init_6 (fun H locs hP hD hS => ?_)
  rw [ap_set] at hP hD
  have hP : va_P D gCl (w ++ [(a0, .inr (7, [.ref ny, .int 0, .int 0]))]) H := hP
  have hD : va_D A (w ++ [(a0, .inr (7, [.ref ny, .int 0, .int 0]))]) := hD
  refine lv_aload_n hC.x hC.b dX8_init_9 rfl (lv_at hl 0 rfl) ?_
  refine lv_iload_n hC.x hC.b dX8_init_10 rfl (lv_at hl 2 rfl) ?_
  refine va_putF (D := D) (ci := 7) (fs := [.ref ny, .int 0, .int 0]) (v := .int ky) (ty := (.int)) (C := RX9) (T := TX9) (N := 3) hC.x hC.b hC.ts in_X9 tyX9 tyX9_ok nmX9 hC.ow hC.K.1 hP hD hS (w.length + 0) (ap_at w _ 0) gCl_X9 1 (by decide) (hC.ts _ q753) (fun _ h9 => h9) rfl hin rfl (by decide +kernel) rfl rfl (Nat.le_of_ble_eq_true rfl) dX8_init_11 (fun H locs hP hD hS => ?_)
  rw [ap_set] at hP hD
  have hP : va_P D gCl (w ++ [(a0, .inr (7, [.ref ny, .int ky, .int 0]))]) H := hP
  have hD : va_D A (w ++ [(a0, .inr (7, [.ref ny, .int ky, .int 0]))]) := hD
  exact rt_v (u := fun j => [a0].getD j 0) hC trivial hP hD hS dX8_init_14
set_option maxHeartbeats 4000000 in
theorem n8_init_X11 (l : Launch) {w : va_W} {a0 : Nat} {ny : Nat} {ky : Int32} : Met l yX8_init (ws_ yX8_init cX8_init 3 none) ({ frames := 1, cells := 0, slots := 0, locals := 60 } : Room) (va_Pc [.ref a0, .ref ny, .int ky] (PcG D gCl nwG Z Hb A (w ++ [(a0, .inr (8, [.int 0, .int 0, .int 0, .int 0, .null, .int 0]))]))) (va_Qv (fun (_ : Nat → Nat) => True) (BW D gCl A (fun u => w ++ [(a0, .inr (8, [.int 0, .int 0, .int 0, .int 0, .ref ny, .int ky]))])) A) 0 0 A := by
  refine Met.ofG (by decide) (Nat.le_of_ble_eq_true rfl) ?_
  intro p e s m below meth c ls hC hin hP hD hS hl
  have hC : CX RX8 cX8_init 3 none D gCl nwG Z Hb A p s m _ meth c := hC
  have hl : lv_has ls 3 [(0, .ref a0), (1, .ref ny), (2, .int ky)] := hl
  refine lv_aload_n hC.x hC.b dX8_init_0 rfl (lv_at hl 0 rfl) ?_
  refine W.objInit hC.x hC.b hC.ow (hC.ts _ q748) (hC.ts _ q150) (hC.ts _ q151) rfl (by rw [hC.ml]; exact hl.1) rfl dX8_init_1 (Nat.le_of_ble_eq_true rfl) (Nat.le_of_ble_eq_true rfl) ?_
  refine W.eq (g2 := F0 m 4 ls []) rfl ?_
  refine lv_aload_n hC.x hC.b dX8_init_4 rfl (lv_at hl 0 rfl) ?_
  refine lv_aload_n hC.x hC.b dX8_init_5 rfl (lv_at hl 1 rfl) ?_
  refine va_putF (D := D) (ci := 8) (fs := [.int 0, .int 0, .int 0, .int 0, .null, .int 0]) (v := .ref ny) (ty := (.object "java/lang/String")) (C := RX11) (T := TX11) (N := 6) hC.x hC.b hC.ts in_X11 tyX11 tyX11_ok nmX11 hC.ow hC.K.1 hP hD hS (w.length + 0) (ap_at w _ 0) gCl_X11 4 (by decide) (hC.ts _ q751) (fun _ h9 => h9) rfl hin rfl (by decide +kernel) rfl rfl (Nat.le_of_ble_eq_true rfl) dX8_init_6 (fun H locs hP hD hS => ?_)
  rw [ap_set] at hP hD
  have hP : va_P D gCl (w ++ [(a0, .inr (8, [.int 0, .int 0, .int 0, .int 0, .ref ny, .int 0]))]) H := hP
  have hD : va_D A (w ++ [(a0, .inr (8, [.int 0, .int 0, .int 0, .int 0, .ref ny, .int 0]))]) := hD
  refine lv_aload_n hC.x hC.b dX8_init_9 rfl (lv_at hl 0 rfl) ?_
  refine lv_iload_n hC.x hC.b dX8_init_10 rfl (lv_at hl 2 rfl) ?_
  refine va_putF (D := D) (ci := 8) (fs := [.int 0, .int 0, .int 0, .int 0, .ref ny, .int 0]) (v := .int ky) (ty := (.int)) (C := RX11) (T := TX11) (N := 6) hC.x hC.b hC.ts in_X11 tyX11 tyX11_ok nmX11 hC.ow hC.K.1 hP hD hS (w.length + 0) (ap_at w _ 0) gCl_X11 5 (by decide) (hC.ts _ q753) (fun _ h9 => h9) rfl hin rfl (by decide +kernel) rfl rfl (Nat.le_of_ble_eq_true rfl) dX8_init_11 (fun H locs hP hD hS => ?_)
  rw [ap_set] at hP hD
  have hP : va_P D gCl (w ++ [(a0, .inr (8, [.int 0, .int 0, .int 0, .int 0, .ref ny, .int ky]))]) H := hP
  have hD : va_D A (w ++ [(a0, .inr (8, [.int 0, .int 0, .int 0, .int 0, .ref ny, .int ky]))]) := hD
  exact rt_v (u := fun j => [a0].getD j 0) hC trivial hP hD hS dX8_init_14
set_option maxHeartbeats 4000000 in
theorem n8_init_X12 (l : Launch) {w : va_W} {a0 : Nat} {ny : Nat} {ky : Int32} : Met l yX8_init (ws_ yX8_init cX8_init 3 none) ({ frames := 1, cells := 0, slots := 0, locals := 60 } : Room) (va_Pc [.ref a0, .ref ny, .int ky] (PcG D gCl nwG Z Hb A (w ++ [(a0, .inr (9, [.int 0, .int 0, .int 0, .int 0, .null, .int 0]))]))) (va_Qv (fun (_ : Nat → Nat) => True) (BW D gCl A (fun u => w ++ [(a0, .inr (9, [.int 0, .int 0, .int 0, .int 0, .ref ny, .int ky]))])) A) 0 0 A := by
  refine Met.ofG (by decide) (Nat.le_of_ble_eq_true rfl) ?_
  intro p e s m below meth c ls hC hin hP hD hS hl
  have hC : CX RX8 cX8_init 3 none D gCl nwG Z Hb A p s m _ meth c := hC
  have hl : lv_has ls 3 [(0, .ref a0), (1, .ref ny), (2, .int ky)] := hl
  refine lv_aload_n hC.x hC.b dX8_init_0 rfl (lv_at hl 0 rfl) ?_
  refine W.objInit hC.x hC.b hC.ow (hC.ts _ q748) (hC.ts _ q150) (hC.ts _ q151) rfl (by rw [hC.ml]; exact hl.1) rfl dX8_init_1 (Nat.le_of_ble_eq_true rfl) (Nat.le_of_ble_eq_true rfl) ?_
  refine W.eq (g2 := F0 m 4 ls []) rfl ?_
  refine lv_aload_n hC.x hC.b dX8_init_4 rfl (lv_at hl 0 rfl) ?_
  refine lv_aload_n hC.x hC.b dX8_init_5 rfl (lv_at hl 1 rfl) ?_
  refine va_putF (D := D) (ci := 9) (fs := [.int 0, .int 0, .int 0, .int 0, .null, .int 0]) (v := .ref ny) (ty := (.object "java/lang/String")) (C := RX12) (T := TX12) (N := 6) hC.x hC.b hC.ts in_X12 tyX12 tyX12_ok nmX12 hC.ow hC.K.1 hP hD hS (w.length + 0) (ap_at w _ 0) gCl_X12 4 (by decide) (hC.ts _ q751) (fun _ h9 => h9) rfl hin rfl (by decide +kernel) rfl rfl (Nat.le_of_ble_eq_true rfl) dX8_init_6 (fun H locs hP hD hS => ?_)
  rw [ap_set] at hP hD
  have hP : va_P D gCl (w ++ [(a0, .inr (9, [.int 0, .int 0, .int 0, .int 0, .ref ny, .int 0]))]) H := hP
  have hD : va_D A (w ++ [(a0, .inr (9, [.int 0, .int 0, .int 0, .int 0, .ref ny, .int 0]))]) := hD
  refine lv_aload_n hC.x hC.b dX8_init_9 rfl (lv_at hl 0 rfl) ?_
  refine lv_iload_n hC.x hC.b dX8_init_10 rfl (lv_at hl 2 rfl) ?_
  refine va_putF (D := D) (ci := 9) (fs := [.int 0, .int 0, .int 0, .int 0, .ref ny, .int 0]) (v := .int ky) (ty := (.int)) (C := RX12) (T := TX12) (N := 6) hC.x hC.b hC.ts in_X12 tyX12 tyX12_ok nmX12 hC.ow hC.K.1 hP hD hS (w.length + 0) (ap_at w _ 0) gCl_X12 5 (by decide) (hC.ts _ q753) (fun _ h9 => h9) rfl hin rfl (by decide +kernel) rfl rfl (Nat.le_of_ble_eq_true rfl) dX8_init_11 (fun H locs hP hD hS => ?_)
  rw [ap_set] at hP hD
  have hP : va_P D gCl (w ++ [(a0, .inr (9, [.int 0, .int 0, .int 0, .int 0, .ref ny, .int ky]))]) H := hP
  have hD : va_D A (w ++ [(a0, .inr (9, [.int 0, .int 0, .int 0, .int 0, .ref ny, .int ky]))]) := hD
  exact rt_v (u := fun j => [a0].getD j 0) hC trivial hP hD hS dX8_init_14
set_option maxHeartbeats 4000000 in
theorem n8_init_X13 (l : Launch) {w : va_W} {a0 : Nat} {ny : Nat} {ky : Int32} : Met l yX8_init (ws_ yX8_init cX8_init 3 none) ({ frames := 1, cells := 0, slots := 0, locals := 60 } : Room) (va_Pc [.ref a0, .ref ny, .int ky] (PcG D gCl nwG Z Hb A (w ++ [(a0, .inr (10, [.int 0, .int 0, .int 0, .int 0, .null, .int 0]))]))) (va_Qv (fun (_ : Nat → Nat) => True) (BW D gCl A (fun u => w ++ [(a0, .inr (10, [.int 0, .int 0, .int 0, .int 0, .ref ny, .int ky]))])) A) 0 0 A := by
  refine Met.ofG (by decide) (Nat.le_of_ble_eq_true rfl) ?_
  intro p e s m below meth c ls hC hin hP hD hS hl
  have hC : CX RX8 cX8_init 3 none D gCl nwG Z Hb A p s m _ meth c := hC
  have hl : lv_has ls 3 [(0, .ref a0), (1, .ref ny), (2, .int ky)] := hl
  refine lv_aload_n hC.x hC.b dX8_init_0 rfl (lv_at hl 0 rfl) ?_
  refine W.objInit hC.x hC.b hC.ow (hC.ts _ q748) (hC.ts _ q150) (hC.ts _ q151) rfl (by rw [hC.ml]; exact hl.1) rfl dX8_init_1 (Nat.le_of_ble_eq_true rfl) (Nat.le_of_ble_eq_true rfl) ?_
  refine W.eq (g2 := F0 m 4 ls []) rfl ?_
  refine lv_aload_n hC.x hC.b dX8_init_4 rfl (lv_at hl 0 rfl) ?_
  refine lv_aload_n hC.x hC.b dX8_init_5 rfl (lv_at hl 1 rfl) ?_
  refine va_putF (D := D) (ci := 10) (fs := [.int 0, .int 0, .int 0, .int 0, .null, .int 0]) (v := .ref ny) (ty := (.object "java/lang/String")) (C := RX13) (T := TX13) (N := 6) hC.x hC.b hC.ts in_X13 tyX13 tyX13_ok nmX13 hC.ow hC.K.1 hP hD hS (w.length + 0) (ap_at w _ 0) gCl_X13 4 (by decide) (hC.ts _ q751) (fun _ h9 => h9) rfl hin rfl (by decide +kernel) rfl rfl (Nat.le_of_ble_eq_true rfl) dX8_init_6 (fun H locs hP hD hS => ?_)
  rw [ap_set] at hP hD
  have hP : va_P D gCl (w ++ [(a0, .inr (10, [.int 0, .int 0, .int 0, .int 0, .ref ny, .int 0]))]) H := hP
  have hD : va_D A (w ++ [(a0, .inr (10, [.int 0, .int 0, .int 0, .int 0, .ref ny, .int 0]))]) := hD
  refine lv_aload_n hC.x hC.b dX8_init_9 rfl (lv_at hl 0 rfl) ?_
  refine lv_iload_n hC.x hC.b dX8_init_10 rfl (lv_at hl 2 rfl) ?_
  refine va_putF (D := D) (ci := 10) (fs := [.int 0, .int 0, .int 0, .int 0, .ref ny, .int 0]) (v := .int ky) (ty := (.int)) (C := RX13) (T := TX13) (N := 6) hC.x hC.b hC.ts in_X13 tyX13 tyX13_ok nmX13 hC.ow hC.K.1 hP hD hS (w.length + 0) (ap_at w _ 0) gCl_X13 5 (by decide) (hC.ts _ q753) (fun _ h9 => h9) rfl hin rfl (by decide +kernel) rfl rfl (Nat.le_of_ble_eq_true rfl) dX8_init_11 (fun H locs hP hD hS => ?_)
  rw [ap_set] at hP hD
  have hP : va_P D gCl (w ++ [(a0, .inr (10, [.int 0, .int 0, .int 0, .int 0, .ref ny, .int ky]))]) H := hP
  have hD : va_D A (w ++ [(a0, .inr (10, [.int 0, .int 0, .int 0, .int 0, .ref ny, .int ky]))]) := hD
  exact rt_v (u := fun j => [a0].getD j 0) hC trivial hP hD hS dX8_init_14
set_option maxHeartbeats 4000000 in
theorem n8_init_X14 (l : Launch) {w : va_W} {a0 : Nat} {ny : Nat} {ky : Int32} : Met l yX8_init (ws_ yX8_init cX8_init 3 none) ({ frames := 1, cells := 0, slots := 0, locals := 60 } : Room) (va_Pc [.ref a0, .ref ny, .int ky] (PcG D gCl nwG Z Hb A (w ++ [(a0, .inr (11, [.int 0, .int 0, .int 0, .int 0, .null, .int 0]))]))) (va_Qv (fun (_ : Nat → Nat) => True) (BW D gCl A (fun u => w ++ [(a0, .inr (11, [.int 0, .int 0, .int 0, .int 0, .ref ny, .int ky]))])) A) 0 0 A := by
  refine Met.ofG (by decide) (Nat.le_of_ble_eq_true rfl) ?_
  intro p e s m below meth c ls hC hin hP hD hS hl
  have hC : CX RX8 cX8_init 3 none D gCl nwG Z Hb A p s m _ meth c := hC
  have hl : lv_has ls 3 [(0, .ref a0), (1, .ref ny), (2, .int ky)] := hl
  refine lv_aload_n hC.x hC.b dX8_init_0 rfl (lv_at hl 0 rfl) ?_
  refine W.objInit hC.x hC.b hC.ow (hC.ts _ q748) (hC.ts _ q150) (hC.ts _ q151) rfl (by rw [hC.ml]; exact hl.1) rfl dX8_init_1 (Nat.le_of_ble_eq_true rfl) (Nat.le_of_ble_eq_true rfl) ?_
  refine W.eq (g2 := F0 m 4 ls []) rfl ?_
  refine lv_aload_n hC.x hC.b dX8_init_4 rfl (lv_at hl 0 rfl) ?_
  refine lv_aload_n hC.x hC.b dX8_init_5 rfl (lv_at hl 1 rfl) ?_
  refine va_putF (D := D) (ci := 11) (fs := [.int 0, .int 0, .int 0, .int 0, .null, .int 0]) (v := .ref ny) (ty := (.object "java/lang/String")) (C := RX14) (T := TX14) (N := 6) hC.x hC.b hC.ts in_X14 tyX14 tyX14_ok nmX14 hC.ow hC.K.1 hP hD hS (w.length + 0) (ap_at w _ 0) gCl_X14 4 (by decide) (hC.ts _ q751) (fun _ h9 => h9) rfl hin rfl (by decide +kernel) rfl rfl (Nat.le_of_ble_eq_true rfl) dX8_init_6 (fun H locs hP hD hS => ?_)
  rw [ap_set] at hP hD
  have hP : va_P D gCl (w ++ [(a0, .inr (11, [.int 0, .int 0, .int 0, .int 0, .ref ny, .int 0]))]) H := hP
  have hD : va_D A (w ++ [(a0, .inr (11, [.int 0, .int 0, .int 0, .int 0, .ref ny, .int 0]))]) := hD
  refine lv_aload_n hC.x hC.b dX8_init_9 rfl (lv_at hl 0 rfl) ?_
  refine lv_iload_n hC.x hC.b dX8_init_10 rfl (lv_at hl 2 rfl) ?_
  refine va_putF (D := D) (ci := 11) (fs := [.int 0, .int 0, .int 0, .int 0, .ref ny, .int 0]) (v := .int ky) (ty := (.int)) (C := RX14) (T := TX14) (N := 6) hC.x hC.b hC.ts in_X14 tyX14 tyX14_ok nmX14 hC.ow hC.K.1 hP hD hS (w.length + 0) (ap_at w _ 0) gCl_X14 5 (by decide) (hC.ts _ q753) (fun _ h9 => h9) rfl hin rfl (by decide +kernel) rfl rfl (Nat.le_of_ble_eq_true rfl) dX8_init_11 (fun H locs hP hD hS => ?_)
  rw [ap_set] at hP hD
  have hP : va_P D gCl (w ++ [(a0, .inr (11, [.int 0, .int 0, .int 0, .int 0, .ref ny, .int ky]))]) H := hP
  have hD : va_D A (w ++ [(a0, .inr (11, [.int 0, .int 0, .int 0, .int 0, .ref ny, .int ky]))]) := hD
  exact rt_v (u := fun j => [a0].getD j 0) hC trivial hP hD hS dX8_init_14
set_option maxHeartbeats 4000000 in
theorem n10_init_X11 (l : Launch) {w : va_W} {a0 : Nat} {ny : Nat} {ky : Int32} : Met l yX10_init (ws_ yX10_init cX10_init 3 none) ({ frames := 2, cells := 0, slots := 0, locals := 82 } : Room) (va_Pc [.ref a0, .ref ny, .int ky] (PcG D gCl nwG Z Hb A (w ++ [(a0, .inr (8, [.int 0, .int 0, .int 0, .int 0, .null, .int 0]))]))) (va_Qv (fun (_ : Nat → Nat) => True) (BW D gCl A (fun u => w ++ [(a0, .inr (8, [.int 0, .int 0, .int (-2), .int (-1), .ref ny, .int ky]))])) A) 0 0 A := by
  refine Met.ofG (by decide) (Nat.le_of_ble_eq_true rfl) ?_
  intro p e s m below meth c ls hC hin hP hD hS hl
  have hC : CX RX10 cX10_init 3 none D gCl nwG Z Hb A p s m _ meth c := hC
  have hl : lv_has ls 3 [(0, .ref a0), (1, .ref ny), (2, .int ky)] := hl
  refine lv_aload_n hC.x hC.b dX10_init_0 rfl (lv_at hl 0 rfl) ?_
  refine lv_aload_n hC.x hC.b dX10_init_1 rfl (lv_at hl 1 rfl) ?_
  refine lv_iload_n hC.x hC.b dX10_init_2 rfl (lv_at hl 2 rfl) ?_
  refine go_v (run_I (rest := []) hC (n8_init_X11 l (w := w) (ny := ny) (ky := ky)) q783 ⟨q747, q133, q746⟩ ⟨by decide +kernel, by decide +kernel, by show _ = some 2; decide +kernel⟩ rfl ⟨rfl, rfl, Nat.le_of_ble_eq_true rfl, Nat.le_of_ble_eq_true rfl⟩ ⟨Nat.le_of_ble_eq_true rfl, Nat.le_of_ble_eq_true rfl⟩ hP hD hS hl.1 (Nat.le_of_ble_eq_true rfl) dX10_init_3 rfl) hS (fun u1 H locs _ hP hD hS => ?_)
  have hP : va_P D gCl (w ++ [(a0, .inr (8, [.int 0, .int 0, .int 0, .int 0, .ref ny, .int ky]))]) H := hP
  have hD : va_D A (w ++ [(a0, .inr (8, [.int 0, .int 0, .int 0, .int 0, .ref ny, .int ky]))]) := hD
  refine lv_aload_n hC.x hC.b dX10_init_6 rfl (lv_at hl 0 rfl) ?_
  refine lv_bipush (v := (-2)) hC.x hC.b dX10_init_7 (by decide) ?_
  refine va_put (D := D) (ci := 8) (fs := [.int 0, .int 0, .int 0, .int 0, .ref ny, .int ky]) (v := .int (-2)) (ty := (.int)) (C := RX11) (T := TX11) (N := 6) hC.x hC.b hC.ts in_X11 tyX11 tyX11_ok nmX11 hC.ow hC.K.1 hP hD hS (w.length + 0) (ap_at w _ 0) gCl_X11 2 (by decide) (hC.ts _ q790) (fun _ h9 => h9) rfl (by decide +kernel) rfl rfl (Nat.le_of_ble_eq_true rfl) dX10_init_9 (fun H locs hP hD hS => ?_)
  rw [ap_set] at hP hD
  have hP : va_P D gCl (w ++ [(a0, .inr (8, [.int 0, .int 0, .int (-2), .int 0, .ref ny, .int ky]))]) H := hP
  have hD : va_D A (w ++ [(a0, .inr (8, [.int 0, .int 0, .int (-2), .int 0, .ref ny, .int ky]))]) := hD
  refine lv_aload_n hC.x hC.b dX10_init_12 rfl (lv_at hl 0 rfl) ?_
  refine lv_iconst (v := (-1)) hC.x hC.b dX10_init_13 (by decide) ?_
  refine va_put (D := D) (ci := 8) (fs := [.int 0, .int 0, .int (-2), .int 0, .ref ny, .int ky]) (v := .int (-1)) (ty := (.int)) (C := RX11) (T := TX11) (N := 6) hC.x hC.b hC.ts in_X11 tyX11 tyX11_ok nmX11 hC.ow hC.K.1 hP hD hS (w.length + 0) (ap_at w _ 0) gCl_X11 3 (by decide) (hC.ts _ q793) (fun _ h9 => h9) rfl (by decide +kernel) rfl rfl (Nat.le_of_ble_eq_true rfl) dX10_init_14 (fun H locs hP hD hS => ?_)
  rw [ap_set] at hP hD
  have hP : va_P D gCl (w ++ [(a0, .inr (8, [.int 0, .int 0, .int (-2), .int (-1), .ref ny, .int ky]))]) H := hP
  have hD : va_D A (w ++ [(a0, .inr (8, [.int 0, .int 0, .int (-2), .int (-1), .ref ny, .int ky]))]) := hD
  exact rt_v (u := fun j => [a0].getD j 0) hC trivial hP hD hS dX10_init_17
set_option maxHeartbeats 4000000 in
theorem n10_init_X12 (l : Launch) {w : va_W} {a0 : Nat} {ny : Nat} {ky : Int32} : Met l yX10_init (ws_ yX10_init cX10_init 3 none) ({ frames := 2, cells := 0, slots := 0, locals := 82 } : Room) (va_Pc [.ref a0, .ref ny, .int ky] (PcG D gCl nwG Z Hb A (w ++ [(a0, .inr (9, [.int 0, .int 0, .int 0, .int 0, .null, .int 0]))]))) (va_Qv (fun (_ : Nat → Nat) => True) (BW D gCl A (fun u => w ++ [(a0, .inr (9, [.int 0, .int 0, .int (-2), .int (-1), .ref ny, .int ky]))])) A) 0 0 A := by
  refine Met.ofG (by decide) (Nat.le_of_ble_eq_true rfl) ?_
  intro p e s m below meth c ls hC hin hP hD hS hl
  have hC : CX RX10 cX10_init 3 none D gCl nwG Z Hb A p s m _ meth c := hC
  have hl : lv_has ls 3 [(0, .ref a0), (1, .ref ny), (2, .int ky)] := hl
  refine lv_aload_n hC.x hC.b dX10_init_0 rfl (lv_at hl 0 rfl) ?_
  refine lv_aload_n hC.x hC.b dX10_init_1 rfl (lv_at hl 1 rfl) ?_
  refine lv_iload_n hC.x hC.b dX10_init_2 rfl (lv_at hl 2 rfl) ?_
  refine go_v (run_I (rest := []) hC (n8_init_X12 l (w := w) (ny := ny) (ky := ky)) q783 ⟨q747, q133, q746⟩ ⟨by decide +kernel, by decide +kernel, by show _ = some 2; decide +kernel⟩ rfl ⟨rfl, rfl, Nat.le_of_ble_eq_true rfl, Nat.le_of_ble_eq_true rfl⟩ ⟨Nat.le_of_ble_eq_true rfl, Nat.le_of_ble_eq_true rfl⟩ hP hD hS hl.1 (Nat.le_of_ble_eq_true rfl) dX10_init_3 rfl) hS (fun u1 H locs _ hP hD hS => ?_)
  have hP : va_P D gCl (w ++ [(a0, .inr (9, [.int 0, .int 0, .int 0, .int 0, .ref ny, .int ky]))]) H := hP
  have hD : va_D A (w ++ [(a0, .inr (9, [.int 0, .int 0, .int 0, .int 0, .ref ny, .int ky]))]) := hD
  refine lv_aload_n hC.x hC.b dX10_init_6 rfl (lv_at hl 0 rfl) ?_
  refine lv_bipush (v := (-2)) hC.x hC.b dX10_init_7 (by decide) ?_
  refine va_put (D := D) (ci := 9) (fs := [.int 0, .int 0, .int 0, .int 0, .ref ny, .int ky]) (v := .int (-2)) (ty := (.int)) (C := RX12) (T := TX12) (N := 6) hC.x hC.b hC.ts in_X12 tyX12 tyX12_ok nmX12 hC.ow hC.K.1 hP hD hS (w.length + 0) (ap_at w _ 0) gCl_X12 2 (by decide) (hC.ts _ q790) (fun _ h9 => h9) rfl (by decide +kernel) rfl rfl (Nat.le_of_ble_eq_true rfl) dX10_init_9 (fun H locs hP hD hS => ?_)
  rw [ap_set] at hP hD
  have hP : va_P D gCl (w ++ [(a0, .inr (9, [.int 0, .int 0, .int (-2), .int 0, .ref ny, .int ky]))]) H := hP
  have hD : va_D A (w ++ [(a0, .inr (9, [.int 0, .int 0, .int (-2), .int 0, .ref ny, .int ky]))]) := hD
  refine lv_aload_n hC.x hC.b dX10_init_12 rfl (lv_at hl 0 rfl) ?_
  refine lv_iconst (v := (-1)) hC.x hC.b dX10_init_13 (by decide) ?_
  refine va_put (D := D) (ci := 9) (fs := [.int 0, .int 0, .int (-2), .int 0, .ref ny, .int ky]) (v := .int (-1)) (ty := (.int)) (C := RX12) (T := TX12) (N := 6) hC.x hC.b hC.ts in_X12 tyX12 tyX12_ok nmX12 hC.ow hC.K.1 hP hD hS (w.length + 0) (ap_at w _ 0) gCl_X12 3 (by decide) (hC.ts _ q793) (fun _ h9 => h9) rfl (by decide +kernel) rfl rfl (Nat.le_of_ble_eq_true rfl) dX10_init_14 (fun H locs hP hD hS => ?_)
  rw [ap_set] at hP hD
  have hP : va_P D gCl (w ++ [(a0, .inr (9, [.int 0, .int 0, .int (-2), .int (-1), .ref ny, .int ky]))]) H := hP
  have hD : va_D A (w ++ [(a0, .inr (9, [.int 0, .int 0, .int (-2), .int (-1), .ref ny, .int ky]))]) := hD
  exact rt_v (u := fun j => [a0].getD j 0) hC trivial hP hD hS dX10_init_17
set_option maxHeartbeats 4000000 in
theorem n10_init_X13 (l : Launch) {w : va_W} {a0 : Nat} {ny : Nat} {ky : Int32} : Met l yX10_init (ws_ yX10_init cX10_init 3 none) ({ frames := 2, cells := 0, slots := 0, locals := 82 } : Room) (va_Pc [.ref a0, .ref ny, .int ky] (PcG D gCl nwG Z Hb A (w ++ [(a0, .inr (10, [.int 0, .int 0, .int 0, .int 0, .null, .int 0]))]))) (va_Qv (fun (_ : Nat → Nat) => True) (BW D gCl A (fun u => w ++ [(a0, .inr (10, [.int 0, .int 0, .int (-2), .int (-1), .ref ny, .int ky]))])) A) 0 0 A := by
  refine Met.ofG (by decide) (Nat.le_of_ble_eq_true rfl) ?_
  intro p e s m below meth c ls hC hin hP hD hS hl
  have hC : CX RX10 cX10_init 3 none D gCl nwG Z Hb A p s m _ meth c := hC
  have hl : lv_has ls 3 [(0, .ref a0), (1, .ref ny), (2, .int ky)] := hl
  refine lv_aload_n hC.x hC.b dX10_init_0 rfl (lv_at hl 0 rfl) ?_
  refine lv_aload_n hC.x hC.b dX10_init_1 rfl (lv_at hl 1 rfl) ?_
  refine lv_iload_n hC.x hC.b dX10_init_2 rfl (lv_at hl 2 rfl) ?_
  refine go_v (run_I (rest := []) hC (n8_init_X13 l (w := w) (ny := ny) (ky := ky)) q783 ⟨q747, q133, q746⟩ ⟨by decide +kernel, by decide +kernel, by show _ = some 2; decide +kernel⟩ rfl ⟨rfl, rfl, Nat.le_of_ble_eq_true rfl, Nat.le_of_ble_eq_true rfl⟩ ⟨Nat.le_of_ble_eq_true rfl, Nat.le_of_ble_eq_true rfl⟩ hP hD hS hl.1 (Nat.le_of_ble_eq_true rfl) dX10_init_3 rfl) hS (fun u1 H locs _ hP hD hS => ?_)
  have hP : va_P D gCl (w ++ [(a0, .inr (10, [.int 0, .int 0, .int 0, .int 0, .ref ny, .int ky]))]) H := hP
  have hD : va_D A (w ++ [(a0, .inr (10, [.int 0, .int 0, .int 0, .int 0, .ref ny, .int ky]))]) := hD
  refine lv_aload_n hC.x hC.b dX10_init_6 rfl (lv_at hl 0 rfl) ?_
  refine lv_bipush (v := (-2)) hC.x hC.b dX10_init_7 (by decide) ?_
  refine va_put (D := D) (ci := 10) (fs := [.int 0, .int 0, .int 0, .int 0, .ref ny, .int ky]) (v := .int (-2)) (ty := (.int)) (C := RX13) (T := TX13) (N := 6) hC.x hC.b hC.ts in_X13 tyX13 tyX13_ok nmX13 hC.ow hC.K.1 hP hD hS (w.length + 0) (ap_at w _ 0) gCl_X13 2 (by decide) (hC.ts _ q790) (fun _ h9 => h9) rfl (by decide +kernel) rfl rfl (Nat.le_of_ble_eq_true rfl) dX10_init_9 (fun H locs hP hD hS => ?_)
  rw [ap_set] at hP hD
  have hP : va_P D gCl (w ++ [(a0, .inr (10, [.int 0, .int 0, .int (-2), .int 0, .ref ny, .int ky]))]) H := hP
  have hD : va_D A (w ++ [(a0, .inr (10, [.int 0, .int 0, .int (-2), .int 0, .ref ny, .int ky]))]) := hD
  refine lv_aload_n hC.x hC.b dX10_init_12 rfl (lv_at hl 0 rfl) ?_
  refine lv_iconst (v := (-1)) hC.x hC.b dX10_init_13 (by decide) ?_
  refine va_put (D := D) (ci := 10) (fs := [.int 0, .int 0, .int (-2), .int 0, .ref ny, .int ky]) (v := .int (-1)) (ty := (.int)) (C := RX13) (T := TX13) (N := 6) hC.x hC.b hC.ts in_X13 tyX13 tyX13_ok nmX13 hC.ow hC.K.1 hP hD hS (w.length + 0) (ap_at w _ 0) gCl_X13 3 (by decide) (hC.ts _ q793) (fun _ h9 => h9) rfl (by decide +kernel) rfl rfl (Nat.le_of_ble_eq_true rfl) dX10_init_14 (fun H locs hP hD hS => ?_)
  rw [ap_set] at hP hD
  have hP : va_P D gCl (w ++ [(a0, .inr (10, [.int 0, .int 0, .int (-2), .int (-1), .ref ny, .int ky]))]) H := hP
  have hD : va_D A (w ++ [(a0, .inr (10, [.int 0, .int 0, .int (-2), .int (-1), .ref ny, .int ky]))]) := hD
  exact rt_v (u := fun j => [a0].getD j 0) hC trivial hP hD hS dX10_init_17
set_option maxHeartbeats 4000000 in
theorem n10_init_X14 (l : Launch) {w : va_W} {a0 : Nat} {ny : Nat} {ky : Int32} : Met l yX10_init (ws_ yX10_init cX10_init 3 none) ({ frames := 2, cells := 0, slots := 0, locals := 82 } : Room) (va_Pc [.ref a0, .ref ny, .int ky] (PcG D gCl nwG Z Hb A (w ++ [(a0, .inr (11, [.int 0, .int 0, .int 0, .int 0, .null, .int 0]))]))) (va_Qv (fun (_ : Nat → Nat) => True) (BW D gCl A (fun u => w ++ [(a0, .inr (11, [.int 0, .int 0, .int (-2), .int (-1), .ref ny, .int ky]))])) A) 0 0 A := by
  refine Met.ofG (by decide) (Nat.le_of_ble_eq_true rfl) ?_
  intro p e s m below meth c ls hC hin hP hD hS hl
  have hC : CX RX10 cX10_init 3 none D gCl nwG Z Hb A p s m _ meth c := hC
  have hl : lv_has ls 3 [(0, .ref a0), (1, .ref ny), (2, .int ky)] := hl
  refine lv_aload_n hC.x hC.b dX10_init_0 rfl (lv_at hl 0 rfl) ?_
  refine lv_aload_n hC.x hC.b dX10_init_1 rfl (lv_at hl 1 rfl) ?_
  refine lv_iload_n hC.x hC.b dX10_init_2 rfl (lv_at hl 2 rfl) ?_
  refine go_v (run_I (rest := []) hC (n8_init_X14 l (w := w) (ny := ny) (ky := ky)) q783 ⟨q747, q133, q746⟩ ⟨by decide +kernel, by decide +kernel, by show _ = some 2; decide +kernel⟩ rfl ⟨rfl, rfl, Nat.le_of_ble_eq_true rfl, Nat.le_of_ble_eq_true rfl⟩ ⟨Nat.le_of_ble_eq_true rfl, Nat.le_of_ble_eq_true rfl⟩ hP hD hS hl.1 (Nat.le_of_ble_eq_true rfl) dX10_init_3 rfl) hS (fun u1 H locs _ hP hD hS => ?_)
  have hP : va_P D gCl (w ++ [(a0, .inr (11, [.int 0, .int 0, .int 0, .int 0, .ref ny, .int ky]))]) H := hP
  have hD : va_D A (w ++ [(a0, .inr (11, [.int 0, .int 0, .int 0, .int 0, .ref ny, .int ky]))]) := hD
  refine lv_aload_n hC.x hC.b dX10_init_6 rfl (lv_at hl 0 rfl) ?_
  refine lv_bipush (v := (-2)) hC.x hC.b dX10_init_7 (by decide) ?_
  refine va_put (D := D) (ci := 11) (fs := [.int 0, .int 0, .int 0, .int 0, .ref ny, .int ky]) (v := .int (-2)) (ty := (.int)) (C := RX14) (T := TX14) (N := 6) hC.x hC.b hC.ts in_X14 tyX14 tyX14_ok nmX14 hC.ow hC.K.1 hP hD hS (w.length + 0) (ap_at w _ 0) gCl_X14 2 (by decide) (hC.ts _ q790) (fun _ h9 => h9) rfl (by decide +kernel) rfl rfl (Nat.le_of_ble_eq_true rfl) dX10_init_9 (fun H locs hP hD hS => ?_)
  rw [ap_set] at hP hD
  have hP : va_P D gCl (w ++ [(a0, .inr (11, [.int 0, .int 0, .int (-2), .int 0, .ref ny, .int ky]))]) H := hP
  have hD : va_D A (w ++ [(a0, .inr (11, [.int 0, .int 0, .int (-2), .int 0, .ref ny, .int ky]))]) := hD
  refine lv_aload_n hC.x hC.b dX10_init_12 rfl (lv_at hl 0 rfl) ?_
  refine lv_iconst (v := (-1)) hC.x hC.b dX10_init_13 (by decide) ?_
  refine va_put (D := D) (ci := 11) (fs := [.int 0, .int 0, .int (-2), .int 0, .ref ny, .int ky]) (v := .int (-1)) (ty := (.int)) (C := RX14) (T := TX14) (N := 6) hC.x hC.b hC.ts in_X14 tyX14 tyX14_ok nmX14 hC.ow hC.K.1 hP hD hS (w.length + 0) (ap_at w _ 0) gCl_X14 3 (by decide) (hC.ts _ q793) (fun _ h9 => h9) rfl (by decide +kernel) rfl rfl (Nat.le_of_ble_eq_true rfl) dX10_init_14 (fun H locs hP hD hS => ?_)
  rw [ap_set] at hP hD
  have hP : va_P D gCl (w ++ [(a0, .inr (11, [.int 0, .int 0, .int (-2), .int (-1), .ref ny, .int ky]))]) H := hP
  have hD : va_D A (w ++ [(a0, .inr (11, [.int 0, .int 0, .int (-2), .int (-1), .ref ny, .int ky]))]) := hD
  exact rt_v (u := fun j => [a0].getD j 0) hC trivial hP hD hS dX10_init_17
set_option maxHeartbeats 4000000 in
theorem n9_init_X9 (l : Launch) {w : va_W} {a0 : Nat} {ny : Nat} {ky : Int32} : Met l yX9_init (ws_ yX9_init cX9_init 3 none) ({ frames := 2, cells := 0, slots := 0, locals := 82 } : Room) (va_Pc [.ref a0, .ref ny, .int ky] (PcG D gCl nwG Z Hb A (w ++ [(a0, .inr (7, [.null, .int 0, .int 0]))]))) (va_Qv (fun (_ : Nat → Nat) => True) (BW D gCl A (fun u => w ++ [(a0, .inr (7, [.ref ny, .int ky, .int 0]))])) A) 0 0 A := by
  refine Met.ofG (by decide) (Nat.le_of_ble_eq_true rfl) ?_
  intro p e s m below meth c ls hC hin hP hD hS hl
  have hC : CX RX9 cX9_init 3 none D gCl nwG Z Hb A p s m _ meth c := hC
  have hl : lv_has ls 3 [(0, .ref a0), (1, .ref ny), (2, .int ky)] := hl
  refine lv_aload_n hC.x hC.b dX9_init_0 rfl (lv_at hl 0 rfl) ?_
  refine lv_aload_n hC.x hC.b dX9_init_1 rfl (lv_at hl 1 rfl) ?_
  refine lv_iload_n hC.x hC.b dX9_init_2 rfl (lv_at hl 2 rfl) ?_
  refine go_v (run_I (rest := []) hC (n8_init_X9 l (w := w) (ny := ny) (ky := ky)) q745 ⟨q747, q133, q746⟩ ⟨by decide +kernel, by decide +kernel, by show _ = some 2; decide +kernel⟩ rfl ⟨rfl, rfl, Nat.le_of_ble_eq_true rfl, Nat.le_of_ble_eq_true rfl⟩ ⟨Nat.le_of_ble_eq_true rfl, Nat.le_of_ble_eq_true rfl⟩ hP hD hS hl.1 (Nat.le_of_ble_eq_true rfl) dX9_init_3 rfl) hS (fun u1 H locs _ hP hD hS => ?_)
  have hP : va_P D gCl (w ++ [(a0, .inr (7, [.ref ny, .int ky, .int 0]))]) H := hP
  have hD : va_D A (w ++ [(a0, .inr (7, [.ref ny, .int ky, .int 0]))]) := hD
  exact rt_v (u := fun j => [a0].getD j 0) hC trivial hP hD hS dX9_init_6
set_option maxHeartbeats 4000000 in
theorem n11_init_X11 (l : Launch) {w : va_W} {a0 : Nat} {ny : Nat} {ky : Int32} : Met l yX11_init (ws_ yX11_init cX11_init 3 none) ({ frames := 3, cells := 0, slots := 0, locals := 104 } : Room) (va_Pc [.ref a0, .ref ny, .int ky] (PcG D gCl nwG Z Hb A (w ++ [(a0, .inr (8, [.int 0, .int 0, .int 0, .int 0, .null, .int 0]))]))) (va_Qv (fun (_ : Nat → Nat) => True) (BW D gCl A (fun u => w ++ [(a0, .inr (8, [.int 0, .int 0, .int (-2), .int (-1), .ref ny, .int ky]))])) A) 0 0 A := by
  refine Met.ofG (by decide) (Nat.le_of_ble_eq_true rfl) ?_
  intro p e s m below meth c ls hC hin hP hD hS hl
  have hC : CX RX11 cX11_init 3 none D gCl nwG Z Hb A p s m _ meth c := hC
  have hl : lv_has ls 3 [(0, .ref a0), (1, .ref ny), (2, .int ky)] := hl
  refine lv_aload_n hC.x hC.b dX11_init_0 rfl (lv_at hl 0 rfl) ?_
  refine lv_aload_n hC.x hC.b dX11_init_1 rfl (lv_at hl 1 rfl) ?_
  refine lv_iload_n hC.x hC.b dX11_init_2 rfl (lv_at hl 2 rfl) ?_
  refine go_v (run_I (rest := []) hC (n10_init_X11 l (w := w) (ny := ny) (ky := ky)) q780 ⟨q782, q135, q781⟩ ⟨by decide +kernel, by decide +kernel, by show _ = some 2; decide +kernel⟩ rfl ⟨rfl, rfl, Nat.le_of_ble_eq_true rfl, Nat.le_of_ble_eq_true rfl⟩ ⟨Nat.le_of_ble_eq_true rfl, Nat.le_of_ble_eq_true rfl⟩ hP hD hS hl.1 (Nat.le_of_ble_eq_true rfl) dX11_init_3 rfl) hS (fun u1 H locs _ hP hD hS => ?_)
  have hP : va_P D gCl (w ++ [(a0, .inr (8, [.int 0, .int 0, .int (-2), .int (-1), .ref ny, .int ky]))]) H := hP
  have hD : va_D A (w ++ [(a0, .inr (8, [.int 0, .int 0, .int (-2), .int (-1), .ref ny, .int ky]))]) := hD
  exact rt_v (u := fun j => [a0].getD j 0) hC trivial hP hD hS dX11_init_6
set_option maxHeartbeats 4000000 in
theorem n11_init_X12 (l : Launch) {w : va_W} {a0 : Nat} {ny : Nat} {ky : Int32} : Met l yX11_init (ws_ yX11_init cX11_init 3 none) ({ frames := 3, cells := 0, slots := 0, locals := 104 } : Room) (va_Pc [.ref a0, .ref ny, .int ky] (PcG D gCl nwG Z Hb A (w ++ [(a0, .inr (9, [.int 0, .int 0, .int 0, .int 0, .null, .int 0]))]))) (va_Qv (fun (_ : Nat → Nat) => True) (BW D gCl A (fun u => w ++ [(a0, .inr (9, [.int 0, .int 0, .int (-2), .int (-1), .ref ny, .int ky]))])) A) 0 0 A := by
  refine Met.ofG (by decide) (Nat.le_of_ble_eq_true rfl) ?_
  intro p e s m below meth c ls hC hin hP hD hS hl
  have hC : CX RX11 cX11_init 3 none D gCl nwG Z Hb A p s m _ meth c := hC
  have hl : lv_has ls 3 [(0, .ref a0), (1, .ref ny), (2, .int ky)] := hl
  refine lv_aload_n hC.x hC.b dX11_init_0 rfl (lv_at hl 0 rfl) ?_
  refine lv_aload_n hC.x hC.b dX11_init_1 rfl (lv_at hl 1 rfl) ?_
  refine lv_iload_n hC.x hC.b dX11_init_2 rfl (lv_at hl 2 rfl) ?_
  refine go_v (run_I (rest := []) hC (n10_init_X12 l (w := w) (ny := ny) (ky := ky)) q780 ⟨q782, q135, q781⟩ ⟨by decide +kernel, by decide +kernel, by show _ = some 2; decide +kernel⟩ rfl ⟨rfl, rfl, Nat.le_of_ble_eq_true rfl, Nat.le_of_ble_eq_true rfl⟩ ⟨Nat.le_of_ble_eq_true rfl, Nat.le_of_ble_eq_true rfl⟩ hP hD hS hl.1 (Nat.le_of_ble_eq_true rfl) dX11_init_3 rfl) hS (fun u1 H locs _ hP hD hS => ?_)
  have hP : va_P D gCl (w ++ [(a0, .inr (9, [.int 0, .int 0, .int (-2), .int (-1), .ref ny, .int ky]))]) H := hP
  have hD : va_D A (w ++ [(a0, .inr (9, [.int 0, .int 0, .int (-2), .int (-1), .ref ny, .int ky]))]) := hD
  exact rt_v (u := fun j => [a0].getD j 0) hC trivial hP hD hS dX11_init_6
set_option maxHeartbeats 4000000 in
theorem n13_init_X13 (l : Launch) {w : va_W} {a0 : Nat} {ny : Nat} {ky : Int32} : Met l yX13_init (ws_ yX13_init cX13_init 3 none) ({ frames := 3, cells := 0, slots := 0, locals := 104 } : Room) (va_Pc [.ref a0, .ref ny, .int ky] (PcG D gCl nwG Z Hb A (w ++ [(a0, .inr (10, [.int 0, .int 0, .int 0, .int 0, .null, .int 0]))]))) (va_Qv (fun (_ : Nat → Nat) => True) (BW D gCl A (fun u => w ++ [(a0, .inr (10, [.int 0, .int 0, .int (-2), .int (-1), .ref ny, .int ky]))])) A) 0 0 A := by
  refine Met.ofG (by decide) (Nat.le_of_ble_eq_true rfl) ?_
  intro p e s m below meth c ls hC hin hP hD hS hl
  have hC : CX RX13 cX13_init 3 none D gCl nwG Z Hb A p s m _ meth c := hC
  have hl : lv_has ls 3 [(0, .ref a0), (1, .ref ny), (2, .int ky)] := hl
  refine lv_aload_n hC.x hC.b dX13_init_0 rfl (lv_at hl 0 rfl) ?_
  refine lv_aload_n hC.x hC.b dX13_init_1 rfl (lv_at hl 1 rfl) ?_
  refine lv_iload_n hC.x hC.b dX13_init_2 rfl (lv_at hl 2 rfl) ?_
  refine go_v (run_I (rest := []) hC (n10_init_X13 l (w := w) (ny := ny) (ky := ky)) q827 ⟨q782, q135, q781⟩ ⟨by decide +kernel, by decide +kernel, by show _ = some 2; decide +kernel⟩ rfl ⟨rfl, rfl, Nat.le_of_ble_eq_true rfl, Nat.le_of_ble_eq_true rfl⟩ ⟨Nat.le_of_ble_eq_true rfl, Nat.le_of_ble_eq_true rfl⟩ hP hD hS hl.1 (Nat.le_of_ble_eq_true rfl) dX13_init_3 rfl) hS (fun u1 H locs _ hP hD hS => ?_)
  have hP : va_P D gCl (w ++ [(a0, .inr (10, [.int 0, .int 0, .int (-2), .int (-1), .ref ny, .int ky]))]) H := hP
  have hD : va_D A (w ++ [(a0, .inr (10, [.int 0, .int 0, .int (-2), .int (-1), .ref ny, .int ky]))]) := hD
  exact rt_v (u := fun j => [a0].getD j 0) hC trivial hP hD hS dX13_init_6
set_option maxHeartbeats 4000000 in
theorem n13_init_X14 (l : Launch) {w : va_W} {a0 : Nat} {ny : Nat} {ky : Int32} : Met l yX13_init (ws_ yX13_init cX13_init 3 none) ({ frames := 3, cells := 0, slots := 0, locals := 104 } : Room) (va_Pc [.ref a0, .ref ny, .int ky] (PcG D gCl nwG Z Hb A (w ++ [(a0, .inr (11, [.int 0, .int 0, .int 0, .int 0, .null, .int 0]))]))) (va_Qv (fun (_ : Nat → Nat) => True) (BW D gCl A (fun u => w ++ [(a0, .inr (11, [.int 0, .int 0, .int (-2), .int (-1), .ref ny, .int ky]))])) A) 0 0 A := by
  refine Met.ofG (by decide) (Nat.le_of_ble_eq_true rfl) ?_
  intro p e s m below meth c ls hC hin hP hD hS hl
  have hC : CX RX13 cX13_init 3 none D gCl nwG Z Hb A p s m _ meth c := hC
  have hl : lv_has ls 3 [(0, .ref a0), (1, .ref ny), (2, .int ky)] := hl
  refine lv_aload_n hC.x hC.b dX13_init_0 rfl (lv_at hl 0 rfl) ?_
  refine lv_aload_n hC.x hC.b dX13_init_1 rfl (lv_at hl 1 rfl) ?_
  refine lv_iload_n hC.x hC.b dX13_init_2 rfl (lv_at hl 2 rfl) ?_
  refine go_v (run_I (rest := []) hC (n10_init_X14 l (w := w) (ny := ny) (ky := ky)) q827 ⟨q782, q135, q781⟩ ⟨by decide +kernel, by decide +kernel, by show _ = some 2; decide +kernel⟩ rfl ⟨rfl, rfl, Nat.le_of_ble_eq_true rfl, Nat.le_of_ble_eq_true rfl⟩ ⟨Nat.le_of_ble_eq_true rfl, Nat.le_of_ble_eq_true rfl⟩ hP hD hS hl.1 (Nat.le_of_ble_eq_true rfl) dX13_init_3 rfl) hS (fun u1 H locs _ hP hD hS => ?_)
  have hP : va_P D gCl (w ++ [(a0, .inr (11, [.int 0, .int 0, .int (-2), .int (-1), .ref ny, .int ky]))]) H := hP
  have hD : va_D A (w ++ [(a0, .inr (11, [.int 0, .int 0, .int (-2), .int (-1), .ref ny, .int ky]))]) := hD
  exact rt_v (u := fun j => [a0].getD j 0) hC trivial hP hD hS dX13_init_6
set_option maxHeartbeats 4000000 in
theorem n12_init_X12 (l : Launch) {w : va_W} {a0 : Nat} {ny : Nat} {ky : Int32} : Met l yX12_init (ws_ yX12_init cX12_init 3 none) ({ frames := 4, cells := 0, slots := 0, locals := 126 } : Room) (va_Pc [.ref a0, .ref ny, .int ky] (PcG D gCl nwG Z Hb A (w ++ [(a0, .inr (9, [.int 0, .int 0, .int 0, .int 0, .null, .int 0]))]))) (va_Qv (fun (_ : Nat → Nat) => True) (BW D gCl A (fun u => w ++ [(a0, .inr (9, [.int 0, .int 0, .int (-2), .int (-1), .ref ny, .int ky]))])) A) 0 0 A := by
  refine Met.ofG (by decide) (Nat.le_of_ble_eq_true rfl) ?_
  intro p e s m below meth c ls hC hin hP hD hS hl
  have hC : CX RX12 cX12_init 3 none D gCl nwG Z Hb A p s m _ meth c := hC
  have hl : lv_has ls 3 [(0, .ref a0), (1, .ref ny), (2, .int ky)] := hl
  refine lv_aload_n hC.x hC.b dX12_init_0 rfl (lv_at hl 0 rfl) ?_
  refine lv_aload_n hC.x hC.b dX12_init_1 rfl (lv_at hl 1 rfl) ?_
  refine lv_iload_n hC.x hC.b dX12_init_2 rfl (lv_at hl 2 rfl) ?_
  refine go_v (run_I (rest := []) hC (n11_init_X12 l (w := w) (ny := ny) (ky := ky)) q813 ⟨q779, q136, q778⟩ ⟨by decide +kernel, by decide +kernel, by show _ = some 2; decide +kernel⟩ rfl ⟨rfl, rfl, Nat.le_of_ble_eq_true rfl, Nat.le_of_ble_eq_true rfl⟩ ⟨Nat.le_of_ble_eq_true rfl, Nat.le_of_ble_eq_true rfl⟩ hP hD hS hl.1 (Nat.le_of_ble_eq_true rfl) dX12_init_3 rfl) hS (fun u1 H locs _ hP hD hS => ?_)
  have hP : va_P D gCl (w ++ [(a0, .inr (9, [.int 0, .int 0, .int (-2), .int (-1), .ref ny, .int ky]))]) H := hP
  have hD : va_D A (w ++ [(a0, .inr (9, [.int 0, .int 0, .int (-2), .int (-1), .ref ny, .int ky]))]) := hD
  exact rt_v (u := fun j => [a0].getD j 0) hC trivial hP hD hS dX12_init_6
set_option maxHeartbeats 4000000 in
theorem n14_init_X14 (l : Launch) {w : va_W} {a0 : Nat} {ny : Nat} {ky : Int32} : Met l yX14_init (ws_ yX14_init cX14_init 3 none) ({ frames := 4, cells := 0, slots := 0, locals := 126 } : Room) (va_Pc [.ref a0, .ref ny, .int ky] (PcG D gCl nwG Z Hb A (w ++ [(a0, .inr (11, [.int 0, .int 0, .int 0, .int 0, .null, .int 0]))]))) (va_Qv (fun (_ : Nat → Nat) => True) (BW D gCl A (fun u => w ++ [(a0, .inr (11, [.int 0, .int 0, .int (-2), .int (-1), .ref ny, .int ky]))])) A) 0 0 A := by
  refine Met.ofG (by decide) (Nat.le_of_ble_eq_true rfl) ?_
  intro p e s m below meth c ls hC hin hP hD hS hl
  have hC : CX RX14 cX14_init 3 none D gCl nwG Z Hb A p s m _ meth c := hC
  have hl : lv_has ls 3 [(0, .ref a0), (1, .ref ny), (2, .int ky)] := hl
  refine lv_aload_n hC.x hC.b dX14_init_0 rfl (lv_at hl 0 rfl) ?_
  refine lv_aload_n hC.x hC.b dX14_init_1 rfl (lv_at hl 1 rfl) ?_
  refine lv_iload_n hC.x hC.b dX14_init_2 rfl (lv_at hl 2 rfl) ?_
  refine go_v (run_I (rest := []) hC (n13_init_X14 l (w := w) (ny := ny) (ky := ky)) q841 ⟨q826, q138, q825⟩ ⟨by decide +kernel, by decide +kernel, by show _ = some 2; decide +kernel⟩ rfl ⟨rfl, rfl, Nat.le_of_ble_eq_true rfl, Nat.le_of_ble_eq_true rfl⟩ ⟨Nat.le_of_ble_eq_true rfl, Nat.le_of_ble_eq_true rfl⟩ hP hD hS hl.1 (Nat.le_of_ble_eq_true rfl) dX14_init_3 rfl) hS (fun u1 H locs _ hP hD hS => ?_)
  have hP : va_P D gCl (w ++ [(a0, .inr (11, [.int 0, .int 0, .int (-2), .int (-1), .ref ny, .int ky]))]) H := hP
  have hD : va_D A (w ++ [(a0, .inr (11, [.int 0, .int 0, .int (-2), .int (-1), .ref ny, .int ky]))]) := hD
  exact rt_v (u := fun j => [a0].getD j 0) hC trivial hP hD hS dX14_init_6
end IWb
