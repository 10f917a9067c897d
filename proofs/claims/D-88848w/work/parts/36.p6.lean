/-! PURE PART: the invariant behind a call -/
def Rest (c : Nat) (w : Wd) : Prop := (c ≠ 1 → Tod w) ∧ (c ≠ 2 → Way w) ∧ (c ≠ 3 → Per w) ∧ (c ≠ 4 → Boo w) ∧ (c ≠ 5 → Edi w) ∧ (c ≠ 6 → Car w) ∧ (c ≠ 7 → Tra w) ∧ (c ≠ 8 → Txt w) ∧ (c ≠ 9 → Dec w) ∧ (c ≠ 10 → Lea w) ∧ (c ≠ 11 → Sli w) ∧ (c ≠ 12 → Por w) ∧ (c ≠ 13 → Cho w) ∧ (c ≠ 14 → Aim w) ∧ (c ≠ 15 → Cop w) ∧ (c ≠ 16 → Tap w)
theorem Boo.bk {w : Wd} (h : Boo w) {b : Nat} (hb : Dy w b 7) : BkO w b := by
  obtain ⟨n, -, -, -, h4, -, -, -, h8⟩ := h
  obtain ⟨k, hk, e⟩ := h8 b hb
  obtain ⟨a, g1, g2, -⟩ := h4 k hk
  rw [e] at g1
  cases g1
  exact g2
theorem Inv.rest {c j : Nat} {w w' : Wd} {P : Nat → Nat → Prop} (h : Inv j w) (k : Kept P w w') (hP : ∀ a f, own w a f ≠ c → own w a f ≠ 0 → own w a f ≠ 50 → P a f) (hB : c ≠ 4 → ∀ b f, Dy w b 7 → P (b + 1) f ∧ P (b + 2) f) (hT : c ≠ 16 → ∀ t r f, t < 6 → wR w (52 + t) 0 = some r → P r f) (n7 : c ≠ 4 → NoNew w w' 7) (n8 : c ≠ 5 → NoNew w w' 8) (hc : c < 50) : Fix w' ∧ Rest c w' := by
  obtain ⟨hF, hz, h1, h2, h3, h4, h5, h6, h7, h8, h9, h10, h11, h12, h13, h14, h15, h16⟩ := h
  have hz8 := hF.2.2
  have hq : ∀ i, i ≠ c → i ≠ 0 → i ≠ 50 → ∀ a f, own w a f = i → P a f := fun i h1 h2 h3 a f e => hP a f (by rw [e]; exact h1) (by rw [e]; exact h2) (by rw [e]; exact h3)
  have hi : ∀ a f, own w a f = 99 → P a f := hq 99 (by omega) (by decide) (by decide)
  refine ⟨hF.kept k (hq 98 (by omega) (by decide) (by decide)), fun hc => ?_, fun hc => ?_, fun hc => ?_, fun hc => ?_, fun hc => ?_, fun hc => ?_, fun hc => ?_, fun hc => ?_, fun hc => ?_, fun hc => ?_, fun hc => ?_, fun hc => ?_, fun hc => ?_, fun hc => ?_, fun hc => ?_, fun hc => ?_⟩
  · exact h1.kept k hz8 (hq 1 (Ne.symm hc) (by decide) (by decide))
  · exact h2.kept k hz8 (hq 2 (Ne.symm hc) (by decide) (by decide))
  · exact h3.kept k hz8 (hq 3 (Ne.symm hc) (by decide) (by decide)) hi
  · exact h4.kept k hz8 (hq 4 (Ne.symm hc) (by decide) (by decide)) hi (hB hc) (n7 hc)
  · exact h5.kept k hz8 (hq 5 (Ne.symm hc) (by decide) (by decide)) hi (n8 hc)
  · exact h6.kept k hz8 (hq 6 (Ne.symm hc) (by decide) (by decide)) hi
  · exact h7.kept k hz8 (hq 7 (Ne.symm hc) (by decide) (by decide))
  · exact h8.kept k hz8 (hq 8 (Ne.symm hc) (by decide) (by decide))
  · exact h9.kept k hz8 (hq 9 (Ne.symm hc) (by decide) (by decide)) hi
  · exact h10.kept k hz8 (hq 10 (Ne.symm hc) (by decide) (by decide))
  · exact h11.kept k hz8 (hq 11 (Ne.symm hc) (by decide) (by decide)) hi
  · exact h12.kept k hz8 (hq 12 (Ne.symm hc) (by decide) (by decide))
  · exact h13.kept k hz8 (hq 13 (Ne.symm hc) (by decide) (by decide)) hi
  · exact h14.kept k hz8 (hq 14 (Ne.symm hc) (by decide) (by decide))
  · exact h15.kept k hz8 (hq 15 (Ne.symm hc) (by decide) (by decide)) hi
  · exact h16.kept k hz8 (hq 16 (Ne.symm hc) (by decide) (by decide)) (hT hc) (fun a h _ => h)
theorem But.P {c : Nat} {w : Wd} : ∀ a f, own w a f ≠ c → own w a f ≠ 0 → own w a f ≠ 50 → But c w a f := fun _ _ h1 h2 _ => ⟨h1, h2⟩
theorem But.B {c : Nat} {w : Wd} (h : Boo w) (hc : c < 50) : ∀ b f, Dy w b 7 → But c w (b + 1) f ∧ But c w (b + 2) f := by
  intro b f hb
  obtain ⟨h1, h2, h3, h4, -⟩ := h.bk hb
  have := h1.1
  have e1 : own w (b + 1) f = 50 := by rw [own_d (by omega), h3]; rfl
  have e2 : own w (b + 2) f = 50 := by rw [own_d (by omega), h4]; rfl
  unfold But
  rw [e1, e2]
  exact ⟨⟨by omega, by decide⟩, by omega, by decide⟩
theorem rtag_own {s f : Nat} (hs : s ≤ 4) : ownD (rtag s) f = 16 ∨ ownD (rtag s) f = 50 := by
  rcases (show s = 0 ∨ s = 1 ∨ s = 2 ∨ s = 3 ∨ s = 4 by omega) with rfl | rfl | rfl | rfl | rfl
  · exact Or.inl rfl
  · exact Or.inl rfl
  · exact Or.inr rfl
  · exact Or.inl rfl
  · exact Or.inl rfl
theorem But.T {c : Nat} {w : Wd} (h : Tap w) (hc : c < 50) (hc2 : c ≠ 16) : ∀ t r f, t < 6 → wR w (52 + t) 0 = some r → But c w r f := by
  intro t r f ht hr
  rcases h t ht with ⟨-, g2, -⟩ | ⟨r', s, n, g1, g2, g3, g4, g5, g6, -⟩
  · rw [g2] at hr
    cases hr
  · rw [g1] at hr
    cases hr
    have e : own w r f = ownD (rtag s) f := by rw [own_d g4, g6]
    unfold But
    rw [e]
    rcases rtag_own (f := f) g2 with q | q <;> rw [q] <;> omega
/-- a component's own slots changed, no other's -/
theorem Inv.rest' {c j : Nat} {w w' : Wd} (h : Inv j w) (k : Kept (But c w) w w') (n7 : c ≠ 4 → NoNew w w' 7) (n8 : c ≠ 5 → NoNew w w' 8) (hc : c < 50) : Fix w' ∧ Rest c w' :=
  h.rest k But.P (fun _ => But.B h.2.2.2.2.2.1 hc) (fun h9 => But.T h.2.2.2.2.2.2.2.2.2.2.2.2.2.2.2.2.2 hc h9) n7 n8 hc
theorem Inv.m0 {j : Nat} {w' : Wd} (h : Fix w' ∧ Rest 0 w') (hz : wZ w' ≤ 108 + 1200 * (j + 1)) : Inv (j + 1) w' := ⟨h.1, hz, h.2.1 (by decide), h.2.2.1 (by decide), h.2.2.2.1 (by decide), h.2.2.2.2.1 (by decide), h.2.2.2.2.2.1 (by decide), h.2.2.2.2.2.2.1 (by decide), h.2.2.2.2.2.2.2.1 (by decide), h.2.2.2.2.2.2.2.2.1 (by decide), h.2.2.2.2.2.2.2.2.2.1 (by decide), h.2.2.2.2.2.2.2.2.2.2.1 (by decide), h.2.2.2.2.2.2.2.2.2.2.2.1 (by decide), h.2.2.2.2.2.2.2.2.2.2.2.2.1 (by decide), h.2.2.2.2.2.2.2.2.2.2.2.2.2.1 (by decide), h.2.2.2.2.2.2.2.2.2.2.2.2.2.2.1 (by decide), h.2.2.2.2.2.2.2.2.2.2.2.2.2.2.2.1 (by decide), h.2.2.2.2.2.2.2.2.2.2.2.2.2.2.2.2 (by decide)⟩
theorem Inv.m1 {j : Nat} {w' : Wd} (h : Fix w' ∧ Rest 1 w') (hN : Tod w') (hz : wZ w' ≤ 108 + 1200 * (j + 1)) : Inv (j + 1) w' := ⟨h.1, hz, hN, h.2.2.1 (by decide), h.2.2.2.1 (by decide), h.2.2.2.2.1 (by decide), h.2.2.2.2.2.1 (by decide), h.2.2.2.2.2.2.1 (by decide), h.2.2.2.2.2.2.2.1 (by decide), h.2.2.2.2.2.2.2.2.1 (by decide), h.2.2.2.2.2.2.2.2.2.1 (by decide), h.2.2.2.2.2.2.2.2.2.2.1 (by decide), h.2.2.2.2.2.2.2.2.2.2.2.1 (by decide), h.2.2.2.2.2.2.2.2.2.2.2.2.1 (by decide), h.2.2.2.2.2.2.2.2.2.2.2.2.2.1 (by decide), h.2.2.2.2.2.2.2.2.2.2.2.2.2.2.1 (by decide), h.2.2.2.2.2.2.2.2.2.2.2.2.2.2.2.1 (by decide), h.2.2.2.2.2.2.2.2.2.2.2.2.2.2.2.2 (by decide)⟩
theorem Inv.m2 {j : Nat} {w' : Wd} (h : Fix w' ∧ Rest 2 w') (hN : Way w') (hz : wZ w' ≤ 108 + 1200 * (j + 1)) : Inv (j + 1) w' := ⟨h.1, hz, h.2.1 (by decide), hN, h.2.2.2.1 (by decide), h.2.2.2.2.1 (by decide), h.2.2.2.2.2.1 (by decide), h.2.2.2.2.2.2.1 (by decide), h.2.2.2.2.2.2.2.1 (by decide), h.2.2.2.2.2.2.2.2.1 (by decide), h.2.2.2.2.2.2.2.2.2.1 (by decide), h.2.2.2.2.2.2.2.2.2.2.1 (by decide), h.2.2.2.2.2.2.2.2.2.2.2.1 (by decide), h.2.2.2.2.2.2.2.2.2.2.2.2.1 (by decide), h.2.2.2.2.2.2.2.2.2.2.2.2.2.1 (by decide), h.2.2.2.2.2.2.2.2.2.2.2.2.2.2.1 (by decide), h.2.2.2.2.2.2.2.2.2.2.2.2.2.2.2.1 (by decide), h.2.2.2.2.2.2.2.2.2.2.2.2.2.2.2.2 (by decide)⟩
theorem Inv.m3 {j : Nat} {w' : Wd} (h : Fix w' ∧ Rest 3 w') (hN : Per w') (hz : wZ w' ≤ 108 + 1200 * (j + 1)) : Inv (j + 1) w' := ⟨h.1, hz, h.2.1 (by decide), h.2.2.1 (by decide), hN, h.2.2.2.2.1 (by decide), h.2.2.2.2.2.1 (by decide), h.2.2.2.2.2.2.1 (by decide), h.2.2.2.2.2.2.2.1 (by decide), h.2.2.2.2.2.2.2.2.1 (by decide), h.2.2.2.2.2.2.2.2.2.1 (by decide), h.2.2.2.2.2.2.2.2.2.2.1 (by decide), h.2.2.2.2.2.2.2.2.2.2.2.1 (by decide), h.2.2.2.2.2.2.2.2.2.2.2.2.1 (by decide), h.2.2.2.2.2.2.2.2.2.2.2.2.2.1 (by decide), h.2.2.2.2.2.2.2.2.2.2.2.2.2.2.1 (by decide), h.2.2.2.2.2.2.2.2.2.2.2.2.2.2.2.1 (by decide), h.2.2.2.2.2.2.2.2.2.2.2.2.2.2.2.2 (by decide)⟩
theorem Inv.m4 {j : Nat} {w' : Wd} (h : Fix w' ∧ Rest 4 w') (hN : Boo w') (hz : wZ w' ≤ 108 + 1200 * (j + 1)) : Inv (j + 1) w' := ⟨h.1, hz, h.2.1 (by decide), h.2.2.1 (by decide), h.2.2.2.1 (by decide), hN, h.2.2.2.2.2.1 (by decide), h.2.2.2.2.2.2.1 (by decide), h.2.2.2.2.2.2.2.1 (by decide), h.2.2.2.2.2.2.2.2.1 (by decide), h.2.2.2.2.2.2.2.2.2.1 (by decide), h.2.2.2.2.2.2.2.2.2.2.1 (by decide), h.2.2.2.2.2.2.2.2.2.2.2.1 (by decide), h.2.2.2.2.2.2.2.2.2.2.2.2.1 (by decide), h.2.2.2.2.2.2.2.2.2.2.2.2.2.1 (by decide), h.2.2.2.2.2.2.2.2.2.2.2.2.2.2.1 (by decide), h.2.2.2.2.2.2.2.2.2.2.2.2.2.2.2.1 (by decide), h.2.2.2.2.2.2.2.2.2.2.2.2.2.2.2.2 (by decide)⟩
theorem Inv.m5 {j : Nat} {w' : Wd} (h : Fix w' ∧ Rest 5 w') (hN : Edi w') (hz : wZ w' ≤ 108 + 1200 * (j + 1)) : Inv (j + 1) w' := ⟨h.1, hz, h.2.1 (by decide), h.2.2.1 (by decide), h.2.2.2.1 (by decide), h.2.2.2.2.1 (by decide), hN, h.2.2.2.2.2.2.1 (by decide), h.2.2.2.2.2.2.2.1 (by decide), h.2.2.2.2.2.2.2.2.1 (by decide), h.2.2.2.2.2.2.2.2.2.1 (by decide), h.2.2.2.2.2.2.2.2.2.2.1 (by decide), h.2.2.2.2.2.2.2.2.2.2.2.1 (by decide), h.2.2.2.2.2.2.2.2.2.2.2.2.1 (by decide), h.2.2.2.2.2.2.2.2.2.2.2.2.2.1 (by decide), h.2.2.2.2.2.2.2.2.2.2.2.2.2.2.1 (by decide), h.2.2.2.2.2.2.2.2.2.2.2.2.2.2.2.1 (by decide), h.2.2.2.2.2.2.2.2.2.2.2.2.2.2.2.2 (by decide)⟩
theorem Inv.m6 {j : Nat} {w' : Wd} (h : Fix w' ∧ Rest 6 w') (hN : Car w') (hz : wZ w' ≤ 108 + 1200 * (j + 1)) : Inv (j + 1) w' := ⟨h.1, hz, h.2.1 (by decide), h.2.2.1 (by decide), h.2.2.2.1 (by decide), h.2.2.2.2.1 (by decide), h.2.2.2.2.2.1 (by decide), hN, h.2.2.2.2.2.2.2.1 (by decide), h.2.2.2.2.2.2.2.2.1 (by decide), h.2.2.2.2.2.2.2.2.2.1 (by decide), h.2.2.2.2.2.2.2.2.2.2.1 (by decide), h.2.2.2.2.2.2.2.2.2.2.2.1 (by decide), h.2.2.2.2.2.2.2.2.2.2.2.2.1 (by decide), h.2.2.2.2.2.2.2.2.2.2.2.2.2.1 (by decide), h.2.2.2.2.2.2.2.2.2.2.2.2.2.2.1 (by decide), h.2.2.2.2.2.2.2.2.2.2.2.2.2.2.2.1 (by decide), h.2.2.2.2.2.2.2.2.2.2.2.2.2.2.2.2 (by decide)⟩
theorem Inv.m7 {j : Nat} {w' : Wd} (h : Fix w' ∧ Rest 7 w') (hN : Tra w') (hz : wZ w' ≤ 108 + 1200 * (j + 1)) : Inv (j + 1) w' := ⟨h.1, hz, h.2.1 (by decide), h.2.2.1 (by decide), h.2.2.2.1 (by decide), h.2.2.2.2.1 (by decide), h.2.2.2.2.2.1 (by decide), h.2.2.2.2.2.2.1 (by decide), hN, h.2.2.2.2.2.2.2.2.1 (by decide), h.2.2.2.2.2.2.2.2.2.1 (by decide), h.2.2.2.2.2.2.2.2.2.2.1 (by decide), h.2.2.2.2.2.2.2.2.2.2.2.1 (by decide), h.2.2.2.2.2.2.2.2.2.2.2.2.1 (by decide), h.2.2.2.2.2.2.2.2.2.2.2.2.2.1 (by decide), h.2.2.2.2.2.2.2.2.2.2.2.2.2.2.1 (by decide), h.2.2.2.2.2.2.2.2.2.2.2.2.2.2.2.1 (by decide), h.2.2.2.2.2.2.2.2.2.2.2.2.2.2.2.2 (by decide)⟩
theorem Inv.m8 {j : Nat} {w' : Wd} (h : Fix w' ∧ Rest 8 w') (hN : Txt w') (hz : wZ w' ≤ 108 + 1200 * (j + 1)) : Inv (j + 1) w' := ⟨h.1, hz, h.2.1 (by decide), h.2.2.1 (by decide), h.2.2.2.1 (by decide), h.2.2.2.2.1 (by decide), h.2.2.2.2.2.1 (by decide), h.2.2.2.2.2.2.1 (by decide), h.2.2.2.2.2.2.2.1 (by decide), hN, h.2.2.2.2.2.2.2.2.2.1 (by decide), h.2.2.2.2.2.2.2.2.2.2.1 (by decide), h.2.2.2.2.2.2.2.2.2.2.2.1 (by decide), h.2.2.2.2.2.2.2.2.2.2.2.2.1 (by decide), h.2.2.2.2.2.2.2.2.2.2.2.2.2.1 (by decide), h.2.2.2.2.2.2.2.2.2.2.2.2.2.2.1 (by decide), h.2.2.2.2.2.2.2.2.2.2.2.2.2.2.2.1 (by decide), h.2.2.2.2.2.2.2.2.2.2.2.2.2.2.2.2 (by decide)⟩
theorem Inv.m9 {j : Nat} {w' : Wd} (h : Fix w' ∧ Rest 9 w') (hN : Dec w') (hz : wZ w' ≤ 108 + 1200 * (j + 1)) : Inv (j + 1) w' := ⟨h.1, hz, h.2.1 (by decide), h.2.2.1 (by decide), h.2.2.2.1 (by decide), h.2.2.2.2.1 (by decide), h.2.2.2.2.2.1 (by decide), h.2.2.2.2.2.2.1 (by decide), h.2.2.2.2.2.2.2.1 (by decide), h.2.2.2.2.2.2.2.2.1 (by decide), hN, h.2.2.2.2.2.2.2.2.2.2.1 (by decide), h.2.2.2.2.2.2.2.2.2.2.2.1 (by decide), h.2.2.2.2.2.2.2.2.2.2.2.2.1 (by decide), h.2.2.2.2.2.2.2.2.2.2.2.2.2.1 (by decide), h.2.2.2.2.2.2.2.2.2.2.2.2.2.2.1 (by decide), h.2.2.2.2.2.2.2.2.2.2.2.2.2.2.2.1 (by decide), h.2.2.2.2.2.2.2.2.2.2.2.2.2.2.2.2 (by decide)⟩
theorem Inv.m10 {j : Nat} {w' : Wd} (h : Fix w' ∧ Rest 10 w') (hN : Lea w') (hz : wZ w' ≤ 108 + 1200 * (j + 1)) : Inv (j + 1) w' := ⟨h.1, hz, h.2.1 (by decide), h.2.2.1 (by decide), h.2.2.2.1 (by decide), h.2.2.2.2.1 (by decide), h.2.2.2.2.2.1 (by decide), h.2.2.2.2.2.2.1 (by decide), h.2.2.2.2.2.2.2.1 (by decide), h.2.2.2.2.2.2.2.2.1 (by decide), h.2.2.2.2.2.2.2.2.2.1 (by decide), hN, h.2.2.2.2.2.2.2.2.2.2.2.1 (by decide), h.2.2.2.2.2.2.2.2.2.2.2.2.1 (by decide), h.2.2.2.2.2.2.2.2.2.2.2.2.2.1 (by decide), h.2.2.2.2.2.2.2.2.2.2.2.2.2.2.1 (by decide), h.2.2.2.2.2.2.2.2.2.2.2.2.2.2.2.1 (by decide), h.2.2.2.2.2.2.2.2.2.2.2.2.2.2.2.2 (by decide)⟩
theorem Inv.m11 {j : Nat} {w' : Wd} (h : Fix w' ∧ Rest 11 w') (hN : Sli w') (hz : wZ w' ≤ 108 + 1200 * (j + 1)) : Inv (j + 1) w' := ⟨h.1, hz, h.2.1 (by decide), h.2.2.1 (by decide), h.2.2.2.1 (by decide), h.2.2.2.2.1 (by decide), h.2.2.2.2.2.1 (by decide), h.2.2.2.2.2.2.1 (by decide), h.2.2.2.2.2.2.2.1 (by decide), h.2.2.2.2.2.2.2.2.1 (by decide), h.2.2.2.2.2.2.2.2.2.1 (by decide), h.2.2.2.2.2.2.2.2.2.2.1 (by decide), hN, h.2.2.2.2.2.2.2.2.2.2.2.2.1 (by decide), h.2.2.2.2.2.2.2.2.2.2.2.2.2.1 (by decide), h.2.2.2.2.2.2.2.2.2.2.2.2.2.2.1 (by decide), h.2.2.2.2.2.2.2.2.2.2.2.2.2.2.2.1 (by decide), h.2.2.2.2.2.2.2.2.2.2.2.2.2.2.2.2 (by decide)⟩
theorem Inv.m12 {j : Nat} {w' : Wd} (h : Fix w' ∧ Rest 12 w') (hN : Por w') (hz : wZ w' ≤ 108 + 1200 * (j + 1)) : Inv (j + 1) w' := ⟨h.1, hz, h.2.1 (by decide), h.2.2.1 (by decide), h.2.2.2.1 (by decide), h.2.2.2.2.1 (by decide), h.2.2.2.2.2.1 (by decide), h.2.2.2.2.2.2.1 (by decide), h.2.2.2.2.2.2.2.1 (by decide), h.2.2.2.2.2.2.2.2.1 (by decide), h.2.2.2.2.2.2.2.2.2.1 (by decide), h.2.2.2.2.2.2.2.2.2.2.1 (by decide), h.2.2.2.2.2.2.2.2.2.2.2.1 (by decide), hN, h.2.2.2.2.2.2.2.2.2.2.2.2.2.1 (by decide), h.2.2.2.2.2.2.2.2.2.2.2.2.2.2.1 (by decide), h.2.2.2.2.2.2.2.2.2.2.2.2.2.2.2.1 (by decide), h.2.2.2.2.2.2.2.2.2.2.2.2.2.2.2.2 (by decide)⟩
theorem Inv.m13 {j : Nat} {w' : Wd} (h : Fix w' ∧ Rest 13 w') (hN : Cho w') (hz : wZ w' ≤ 108 + 1200 * (j + 1)) : Inv (j + 1) w' := ⟨h.1, hz, h.2.1 (by decide), h.2.2.1 (by decide), h.2.2.2.1 (by decide), h.2.2.2.2.1 (by decide), h.2.2.2.2.2.1 (by decide), h.2.2.2.2.2.2.1 (by decide), h.2.2.2.2.2.2.2.1 (by decide), h.2.2.2.2.2.2.2.2.1 (by decide), h.2.2.2.2.2.2.2.2.2.1 (by decide), h.2.2.2.2.2.2.2.2.2.2.1 (by decide), h.2.2.2.2.2.2.2.2.2.2.2.1 (by decide), h.2.2.2.2.2.2.2.2.2.2.2.2.1 (by decide), hN, h.2.2.2.2.2.2.2.2.2.2.2.2.2.2.1 (by decide), h.2.2.2.2.2.2.2.2.2.2.2.2.2.2.2.1 (by decide), h.2.2.2.2.2.2.2.2.2.2.2.2.2.2.2.2 (by decide)⟩
theorem Inv.m14 {j : Nat} {w' : Wd} (h : Fix w' ∧ Rest 14 w') (hN : Aim w') (hz : wZ w' ≤ 108 + 1200 * (j + 1)) : Inv (j + 1) w' := ⟨h.1, hz, h.2.1 (by decide), h.2.2.1 (by decide), h.2.2.2.1 (by decide), h.2.2.2.2.1 (by decide), h.2.2.2.2.2.1 (by decide), h.2.2.2.2.2.2.1 (by decide), h.2.2.2.2.2.2.2.1 (by decide), h.2.2.2.2.2.2.2.2.1 (by decide), h.2.2.2.2.2.2.2.2.2.1 (by decide), h.2.2.2.2.2.2.2.2.2.2.1 (by decide), h.2.2.2.2.2.2.2.2.2.2.2.1 (by decide), h.2.2.2.2.2.2.2.2.2.2.2.2.1 (by decide), h.2.2.2.2.2.2.2.2.2.2.2.2.2.1 (by decide), hN, h.2.2.2.2.2.2.2.2.2.2.2.2.2.2.2.1 (by decide), h.2.2.2.2.2.2.2.2.2.2.2.2.2.2.2.2 (by decide)⟩
theorem Inv.m15 {j : Nat} {w' : Wd} (h : Fix w' ∧ Rest 15 w') (hN : Cop w') (hz : wZ w' ≤ 108 + 1200 * (j + 1)) : Inv (j + 1) w' := ⟨h.1, hz, h.2.1 (by decide), h.2.2.1 (by decide), h.2.2.2.1 (by decide), h.2.2.2.2.1 (by decide), h.2.2.2.2.2.1 (by decide), h.2.2.2.2.2.2.1 (by decide), h.2.2.2.2.2.2.2.1 (by decide), h.2.2.2.2.2.2.2.2.1 (by decide), h.2.2.2.2.2.2.2.2.2.1 (by decide), h.2.2.2.2.2.2.2.2.2.2.1 (by decide), h.2.2.2.2.2.2.2.2.2.2.2.1 (by decide), h.2.2.2.2.2.2.2.2.2.2.2.2.1 (by decide), h.2.2.2.2.2.2.2.2.2.2.2.2.2.1 (by decide), h.2.2.2.2.2.2.2.2.2.2.2.2.2.2.1 (by decide), hN, h.2.2.2.2.2.2.2.2.2.2.2.2.2.2.2.2 (by decide)⟩
theorem Inv.m16 {j : Nat} {w' : Wd} (h : Fix w' ∧ Rest 16 w') (hN : Tap w') (hz : wZ w' ≤ 108 + 1200 * (j + 1)) : Inv (j + 1) w' := ⟨h.1, hz, h.2.1 (by decide), h.2.2.1 (by decide), h.2.2.2.1 (by decide), h.2.2.2.2.1 (by decide), h.2.2.2.2.2.1 (by decide), h.2.2.2.2.2.2.1 (by decide), h.2.2.2.2.2.2.2.1 (by decide), h.2.2.2.2.2.2.2.2.1 (by decide), h.2.2.2.2.2.2.2.2.2.1 (by decide), h.2.2.2.2.2.2.2.2.2.2.1 (by decide), h.2.2.2.2.2.2.2.2.2.2.2.1 (by decide), h.2.2.2.2.2.2.2.2.2.2.2.2.1 (by decide), h.2.2.2.2.2.2.2.2.2.2.2.2.2.1 (by decide), h.2.2.2.2.2.2.2.2.2.2.2.2.2.2.1 (by decide), h.2.2.2.2.2.2.2.2.2.2.2.2.2.2.2.1 (by decide), hN⟩
/-- nothing but nobody's slots changed -/
theorem Inv.ask {j : Nat} {w w' : Wd} (h : Inv j w) (k : Kept (But 0 w) w w') (hz : wZ w' = wZ w) : Inv (j + 1) w' := by
  have h7 : ∀ t, NoNew w w' t := fun t a ha h9 => by have := h9.2.1; omega
  exact Inv.m0 (h.rest' k (fun _ => h7 7) (fun _ => h7 8) (by decide)) (by have := h.2.1; omega)
theorem Inv.same {j : Nat} {w : Wd} (h : Inv j w) : Inv (j + 1) w := h.ask Kept.rfl' rfl
theorem noNew_of {w w' : Wd} (h : wZ w' = wZ w) (t : Nat) : NoNew w w' t := fun a ha h9 => by have := h9.2.1; omega
