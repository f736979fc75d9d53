set_option maxRecDepth 100000
section LLED
variable {p : Program} {l : Launch} {e : Env} {s : State} {m : MethodId} {args : Array Value} {below : List Frame} {meth : Method} {c : Code} {D : va_G} {Z : State → Prop} {Hb : Heap} {A : Nat → Prop} {ad : Nat → Nat} {sc : Option Nat × Option Nat × (Nat → Value)} {tw : Option TD}
abbrev oW (D : va_G) (ao : Nat) (ov : Nat → Int64) : va_W := [(ao, .inl (D.1 101, 1, .inr (.inl ov)))]
theorem v0_1_led : GoodIn lw_all (wsV RX0 7 RX1 yX1_led (ws_ yX1_led cX1_led 4 (some .int))) := lw_V q1365 q1366 q1367 q118 q1368
theorem h0_led : yX0_led.cls ≠ "java/lang/invoke/MethodHandle" ∧ yX0_led.cls ≠ "java/lang/invoke/VarHandle" ∧ (parseMethodDescriptor yX0_led.desc).map (fun d => d.parameters.length) = some 3 := by decide +kernel
/-- what SeanceStreetLaw.led answers, and what it leaves -/
def w0_led (post : Int32 → (Nat → Int64) → Prop) (tw : Option TD) (S : CS) (x1 : Int32) (ov : Nat → Int64) : Prop := w1_led (fun r => post 0 (vp_updL ov 0 r.toInt64)) (post 1 ov) tw S x1
set_option maxHeartbeats 4000000 in
theorem m0_led (l : Launch) {post : Int32 → (Nat → Int64) → Prop} {S : CS} {x1 : Int32} {ao : Nat} {ov : Nat → Int64} (hst : l.stackTraces = false) (hz : ∀ U, Z U → zL A Hb U) (hw : w0_led post tw S x1 ov) :
    Met l yX0_led (wsW_ yX0_led cX0_led 4 (some .int) [((0 : Nat), (9 : Nat), (12 : Nat), (13 : Nat))]) ({ frames := 124, cells := 1, slots := 6, locals := 6100 } : Room) (va_Pc [.ref (ad 0), .int x1, .ref ao] (PcG D gCl nwG Z Hb A (wC D ad sc tw S ++ oW D ao ov))) (va_Qi post (BW D gCl A (fun u => wC D ad sc tw S ++ oW D ao u)) A) 1 6 A := by
  refine Met.ofGW (by decide) (Nat.le_of_ble_eq_true rfl) ?_
  intro p e s m below meth c ls hC htab hP hD hS hl
  have hC : CX RX0 cX0_led 4 (some .int) D gCl nwG Z Hb A p s m [Value.ref (ad 0), .int x1, .ref ao].toArray meth c := hC
  have hl : lv_has ls 4 [(0, .ref (ad 0)), (1, .int x1), (2, .ref ao)] := hl
  unfold w0_led at hw
  refine lv_aload_n hC.x hC.b dX0_led_0 rfl (lv_at hl 2 rfl) ?_
  refine lv_iconst (v := 0) hC.x hC.b dX0_led_1 (by decide) ?_
  refine lv_aload_n hC.x hC.b dX0_led_2 rfl (lv_at hl 0 rfl) ?_
  refine lv_iload_n hC.x hC.b dX0_led_3 rfl (lv_at hl 1 rfl) ?_
  refine fxg_i (T := Unit) (SX := Unit) (nm := nse) (wx := fun _ => wC D ad sc tw S) (wf := fun _ => wC D ad sc tw S) hC (fx_V (rest := [.int 0, .ref ao]) (As := [.int x1]) hC (m1_led l hst (fun U hU => (hz U hU).next (hC.ag.on hC.aA hS) (fr_A hC hD hS)) hw) v0_1_led h1_led 0 0 gCl_X1 rfl rfl ⟨rfl, rfl, Nat.le_of_ble_eq_true rfl, Nat.le_of_ble_eq_true rfl⟩ ⟨Nat.le_of_ble_eq_true rfl, Nat.le_of_ble_eq_true rfl⟩ hP hD hl.1 (Nat.le_of_ble_eq_true rfl) dX0_led_4 rfl) hP hD hS ?_ ?_
  · intro ce q9 u H locs hw hP hD hS hce hv hcl
    refine vx_catch (own := RX0) (name := nse) hC.ow [] ⟨0, 9, 12, 13⟩ [] (by rw [htab]; rfl) (fun z hz => by cases hz) (by decide) (by decide) (hC.ts _ q1364) (va_Nw.use rfl (hz s hC.K.2.2.2).2.2.2.2.2) hce hv hcl ?_
    refine lv_astore_n (lv' := [(3, .ref q9), (0, .ref (ad 0)), (1, .int x1), (2, .ref ao)]) hC.x hC.b dX0_led_12 rfl hl (by decide) rfl (fun ls hl => ?_)
    refine lv_iconst (v := 1) hC.x hC.b dX0_led_13 (by decide) ?_
    exact rt_i (u := ov) hC hw hP hD hS dX0_led_14
  · intro r u H locs hw hP hD hS
    refine lv_i2l (v := r.toInt64) hC.x hC.b dX0_led_7 rfl ?_
    refine va_last hC.x hC.b hC.K.1 hP hD hS ((wC D ad sc tw S).length + 0) 1 (by rw [List.getElem?_append_right (by omega), Nat.add_sub_cancel_left]; rfl) rfl (vp_lit rfl) dX0_led_8 (fun H locs hP hD hS => ?_)
    have e : (wC D ad sc tw S ++ oW D ao ov).set ((wC D ad sc tw S).length + 0) (ao, .inl (D.1 101, 1, .inr (.inl (vp_updL ov (0 : Int32).toNatClampNeg r.toInt64)))) = wC D ad sc tw S ++ oW D ao (vp_updL ov 0 r.toInt64) := by
      rw [List.set_append_right _ _ (by omega), Nat.add_sub_cancel_left]
      rfl
    rw [e] at hP hD
    refine lv_goto (tgt := 15) hC.x hC.b dX0_led_9 (by decide) ?_
    refine lv_iconst (v := 0) hC.x hC.b dX0_led_15 (by decide) ?_
    exact rt_i (u := vp_updL ov 0 r.toInt64) hC hw hP hD hS dX0_led_16
end LLED
