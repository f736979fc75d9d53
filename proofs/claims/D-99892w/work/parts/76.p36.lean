/-! PURE 36: chat -/
set_option maxRecDepth 100000
def chV (a b c : Int32) : Int32 := if b = 0 then (if c = 0 then 1 else 2 - a) else if c = 0 then 3 else 0
theorem s_chat {post : Int32 → Prop} {a b c : Int32} (h : post (chV a b c)) : w6_chatted post a b c := by
  unfold w6_chatted
  unfold chV at h
  refine ⟨fun q => ⟨fun r => ?_, fun r => ?_⟩, fun q => ⟨fun r => ?_, fun r => ?_⟩⟩
  · rw [if_pos q, if_pos r] at h; exact h
  · rw [if_pos q, if_neg r] at h; exact h
  · rw [if_neg q, if_pos r] at h; exact h
  · rw [if_neg q, if_neg r] at h; exact h
theorem s1_chat {post : Int32 → Prop} {a b c : Int32} (h : post (chV a b c)) : w1_chatted post a b c := s_chat h
def soW (oT : Option GT) (x : Int32) : Int32 := if gt oT = true then (if inN 10 x = true then 0 else 2) else 1
theorem g6_soot {tw : Option (Nat → Nat)} {S : MS} {oT : Option GT} {s : GS} {post : Int32 → Prop} (h : m6 tw S oT s) {x : Int32} (hp : post (soW oT x)) : w6_refusesSoot post tw S x := by
  unfold w6_refusesSoot
  cases oT with
  | none => exact ⟨fun _ => hp, fun ⟨t, c⟩ => by rw [show tw = none from h] at c; cases c⟩
  | some T =>
    obtain ⟨t, ht⟩ := h.2.1.1
    refine ⟨fun c => (by rw [ht] at c; cases c), fun _ => ?_⟩
    rw [show (9 : Int32) = iI (9 : Nat) from rfl]
    refine g6_in (by omega) ?_
    unfold soW at hp
    rw [if_pos (show gt (some T) = true from rfl)] at hp
    by_cases c : inN 10 x = true
    · rw [if_pos c] at hp; rw [c]; exact ⟨fun z => absurd z (by decide), fun _ => hp⟩
    · have c2 : inN 10 x = false := by simpa using c
      rw [if_neg c] at hp; rw [c2]; exact ⟨fun _ => hp, fun z => absurd rfl z⟩
theorem g1_soot {tw : Option TD} {S : CS} {oT : Option GT} {s : GS} {post : Int32 → Prop} (h : c1 tw S oT s) {x : Int32} (hp : post (soW oT x)) : (tw = none → w1_in (fun r4 => w1_numberWhy post S 0 r4) x 0 9) ∧ ((∃ τ, tw = some τ) → w1_in (fun r4 => w1_numberWhy post S 1 r4) x 0 9) := by
  rw [show (9 : Int32) = iI (9 : Nat) from rfl]
  cases oT with
  | none =>
    refine ⟨fun _ => g1_in (by omega) ⟨fun z => absurd rfl z, fun _ => hp⟩, fun ⟨t, c⟩ => by rw [show tw = none from h] at c; cases c⟩
  | some T =>
    obtain ⟨t, ht⟩ := h.2.1.1
    refine ⟨fun c => (by rw [ht] at c; cases c), fun _ => g1_in (by omega) ⟨fun _ => ?_, fun z => absurd z (by decide)⟩⟩
    unfold soW at hp
    rw [if_pos (show gt (some T) = true from rfl)] at hp
    by_cases c : inN 10 x = true
    · rw [if_pos c] at hp; rw [c]; exact ⟨fun z => absurd z (by decide), fun _ => hp⟩
    · have c2 : inN 10 x = false := by simpa using c
      rw [if_neg c] at hp; rw [c2]; exact ⟨fun _ => hp, fun z => absurd rfl z⟩
theorem soW_c (oT : Option GT) (x : Int32) : soW oT x = 0 ∨ soW oT x = 1 ∨ soW oT x = 2 := by
  unfold soW
  by_cases a : gt oT = true
  · rw [if_pos a]
    by_cases b : inN 10 x = true
    · rw [if_pos b]; exact Or.inl rfl
    · rw [if_neg b]; exact Or.inr (Or.inr rfl)
  · rw [if_neg a]; exact Or.inr (Or.inl rfl)
theorem soW_le {oT : Option GT} {x : Int32} : soW oT x ≤ 0 ↔ soW oT x = 0 := by
  rcases soW_c oT x with e | e | e <;> rw [e] <;> decide
theorem e_chat {tw : Option (Nat → Nat)} {S : MS} {tw' : Option TD} {S' : CS} {s : GS} {oT : Option GT} (h : same tw S tw' S' oT s) (a b c d : Int32) : ∃ r t, Q6 S (fun p => w6_chat p tw S a b c d) r t ∧ Q1 S' (fun p => w1_chat p tw' S' a b c d) r t := by
  refine ⟨if soW oT a = 0 then (if d = 0 then chV a b c else chV a c b) else -100, soW oT a, fun post hp => ?_, fun post hp => ?_⟩
  · unfold w6_chat
    rintro S1 rfl
    refine g6_soot (kU.m h.l) ⟨fun q => ?_, fun q => ?_⟩
    · have q := soW_le.mp q
      rw [if_pos q, q] at hp
      refine ⟨fun e => s_chat ?_, fun e => s_chat ?_⟩
      · rw [if_pos e] at hp
        exact s6_good fun S3 k3 e4 e5 e6 => hp S3 (kU.trans k3) e4 e5 e6
      · rw [if_neg e] at hp
        exact s6_good fun S3 k3 e4 e5 e6 => hp S3 (kU.trans k3) e4 e5 e6
    · have q : ¬ soW oT a = 0 := fun z => q (soW_le.mpr z)
      rw [if_neg q] at hp
      unfold w6_lost
      exact s6_refused fun S3 k3 e4 e5 e6 => hp S3 (kU.trans k3) e4 e5 e6
  · unfold w1_chat
    refine s1_anew fun A k x0 y0 => ?_
    unfold j1_chat_18
    refine g1_soot (k.m h.r) ?_
    rintro S6 rfl
    have e4 : (sI A 0 4 (soW oT a)).1.1 0 4 = soW oT a := by rw [sI_at, if_pos ⟨rfl, rfl⟩]
    have e6 : (sI A 0 4 (soW oT a)).1.1 0 6 = -1 := by rw [sI_at, if_neg (by omega)]; exact y0
    have kk : K1 S' (sI A 0 4 (soW oT a)) := k.trans (K1.sI (by unfold sc1; omega))
    have hp := hp _ kk e4 e6
    rw [e4]
    refine ⟨fun q => ⟨fun e => s1_chat ?_, fun e => s1_chat ?_⟩, fun q => ?_⟩
    · rw [if_pos q, if_pos e] at hp; exact hp
    · rw [if_pos q, if_neg e] at hp; exact hp
    · rw [if_neg q] at hp; exact hp
theorem o_chat (a0 a1 a2 a3 : Int32) : Ob_chat Inv0 a0 a1 a2 a3 := ob_of fun _ _ _ _ _ _ h => e_chat h a0 a1 a2 a3
