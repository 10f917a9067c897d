/-! PURE PART: a component is kept where its slots are -/
section KP
variable {P : Nat → Nat → Prop} {w w' : Wd}
theorem Dy.kept {a t : Nat} (h : Dy w a t) (k : Kept P w w') : Dy w' a t := ⟨h.1, Nat.lt_of_lt_of_le h.2.1 k.Z, by rw [k.T h.2.1]; exact h.2.2⟩
theorem Dy.ow {a t f : Nat} (h : Dy w a t) : own w a f = ownD t f := by rw [own_d h.1, h.2.2]
theorem Kept.fI (k : Kept P w w') (hz : 108 ≤ wZ w) {c a f : Nat} (hp : ∀ a f, own w a f = c → P a f) (ha : a < 108) (ho : ownF a f = c) : wI w' a f = wI w a f := k.I (by omega) (hp a f (by rw [own_f ha, ho]))
theorem Kept.fL (k : Kept P w w') (hz : 108 ≤ wZ w) {c a f : Nat} (hp : ∀ a f, own w a f = c → P a f) (ha : a < 108) (ho : ownF a f = c) : wL w' a f = wL w a f := k.L (by omega) (hp a f (by rw [own_f ha, ho]))
theorem Kept.fR (k : Kept P w w') (hz : 108 ≤ wZ w) {c a f : Nat} (hp : ∀ a f, own w a f = c → P a f) (ha : a < 108) (ho : ownF a f = c) : wR w' a f = wR w a f := k.R (by omega) (hp a f (by rw [own_f ha, ho]))
theorem Kept.dI (k : Kept P w w') {c a f t : Nat} (hp : ∀ a f, own w a f = c → P a f) (ha : Dy w a t) (ho : ownD t f = c) : wI w' a f = wI w a f := k.I ha.2.1 (hp a f (by rw [ha.ow, ho]))
theorem Kept.dR (k : Kept P w w') {c a f t : Nat} (hp : ∀ a f, own w a f = c → P a f) (ha : Dy w a t) (ho : ownD t f = c) : wR w' a f = wR w a f := k.R ha.2.1 (hp a f (by rw [ha.ow, ho]))
theorem Tod.kept (h : Tod w) (k : Kept P w w') (hz : 108 ≤ wZ w) (hp : ∀ a f, own w a f = 1 → P a f) : Tod w' := by
  obtain ⟨t, h1, h2, h3⟩ := h
  exact ⟨t, h1, by rw [k.fI hz hp (by decide) rfl]; exact h2, by rw [k.fI hz hp (by decide) rfl]; exact h3⟩
theorem own_row {a f : Nat} (h : a < 8) : ownF (2 + a) f = 2 := by
  rcases (show a = 0 ∨ a = 1 ∨ a = 2 ∨ a = 3 ∨ a = 4 ∨ a = 5 ∨ a = 6 ∨ a = 7 by omega) with rfl | rfl | rfl | rfl | rfl | rfl | rfl | rfl <;> rfl
theorem own_port {a f : Nat} (h : a < 8) : ownF (27 + a) f = 12 := by
  rcases (show a = 0 ∨ a = 1 ∨ a = 2 ∨ a = 3 ∨ a = 4 ∨ a = 5 ∨ a = 6 ∨ a = 7 by omega) with rfl | rfl | rfl | rfl | rfl | rfl | rfl | rfl <;> rfl
theorem own_tape {a f : Nat} (h : a < 6) : ownF (52 + a) f = 16 := by
  rcases (show a = 0 ∨ a = 1 ∨ a = 2 ∨ a = 3 ∨ a = 4 ∨ a = 5 by omega) with rfl | rfl | rfl | rfl | rfl | rfl <;> rfl
theorem Way.kept (h : Way w) (k : Kept P w w') (hz : 108 ≤ wZ w) (hp : ∀ a f, own w a f = 2 → P a f) : Way w' := by
  obtain ⟨rd, wy, h1, h2⟩ := h
  refine ⟨rd, wy, h1, fun a b ha hb => ?_⟩
  rw [k.fI hz hp (by omega) rfl, k.fI hz hp (by omega) (own_row ha)]
  exact h2 a b ha hb
theorem Per.kept (h : Per w) (k : Kept P w w') (hz : 108 ≤ wZ w) (hp : ∀ a f, own w a f = 3 → P a f) (hi : ∀ a f, own w a f = 99 → P a f) : Per w' := by
  obtain ⟨n, h1, h2, h3, h4⟩ := h
  refine ⟨n, h1, by rw [k.fI hz hp (by decide) rfl]; exact h2, by rw [k.fI hz hp (by decide) rfl]; exact h3, fun j hj => ?_⟩
  obtain ⟨a, g1, g2, g3⟩ := h4 j hj
  refine ⟨a, by rw [k.fR hz hp (by decide) rfl]; exact g1, g2.kept k, ?_⟩
  rw [k.dI hi g2 rfl, k.dI hi g2 rfl, k.fI hz hp (by decide) rfl, k.fI hz hp (by decide) rfl]
  exact g3
theorem BkO.kept {a : Nat} (h : BkO w a) (k : Kept P w w') (hi : ∀ a f, own w a f = 99 → P a f) : BkO w' a := by
  obtain ⟨h1, h2, h3, h4, h5, h6⟩ := h
  have := h1.1
  refine ⟨h1.kept k, Nat.lt_of_lt_of_le h2 k.Z, by rw [k.T (by omega)]; exact h3, by rw [k.T (by omega)]; exact h4, ?_, ?_⟩
  · rw [k.dR hi h1 rfl]; exact h5
  · rw [k.dR hi h1 rfl]; exact h6
/-- new cells are no cells of a tag -/
def NoNew (w w' : Wd) (t : Nat) : Prop := ∀ a, wZ w ≤ a → Dy w' a t → False
theorem Boo.kept (h : Boo w) (k : Kept P w w') (hz : 108 ≤ wZ w) (hp : ∀ a f, own w a f = 4 → P a f) (hi : ∀ a f, own w a f = 99 → P a f) (h50 : ∀ b f, Dy w b 7 → P (b + 1) f ∧ P (b + 2) f) (hn : NoNew w w' 7) : Boo w' := by
  obtain ⟨n, h1, h2, h3, h4, h5, h6, h7, h8⟩ := h
  have e93 : ∀ f, wI w' 93 f = wI w 93 f := fun f => k.fI hz hp (by decide) rfl
  have e66 : ∀ f, wI w' 66 f = wI w 66 f := fun f => k.fI hz hp (by decide) rfl
  have e92 : ∀ f, wI w' 92 f = wI w 92 f := fun f => k.fI hz hp (by decide) rfl
  have e65 : ∀ f, wI w' 65 f = wI w 65 f := fun f => k.fI hz hp (by decide) rfl
  have e64 : ∀ f, wI w' 64 f = wI w 64 f := fun f => k.fI hz hp (by decide) rfl
  have e63 : ∀ f, wI w' 63 f = wI w 63 f := fun f => k.fI hz hp (by decide) rfl
  have e62 : ∀ f, wI w' 62 f = wI w 62 f := fun f => k.fI hz hp (by decide) rfl
  have e11 : ∀ f, wR w' 11 f = wR w 11 f := fun f => k.fR hz hp (by decide) rfl
  refine ⟨n, h1, by rw [k.fI hz hp (by decide) rfl]; exact h2, by rw [k.fI hz hp (by decide) rfl]; exact h3, fun j hj => ?_, fun j hj hj2 => ?_, fun j l hj hl => ?_, fun j x y hj hx hy => ?_, fun a ha => ?_⟩
  · obtain ⟨a, g1, g2, g3, g4, g5, g6, g7, g8, g9, g10, g11, g12, g13, g14⟩ := h4 j hj
    refine ⟨a, by rw [e11]; exact g1, g2.kept k hi, ?_⟩
    have hd := g2.1
    rw [k.dI hi hd rfl, k.dI hi hd rfl, k.dI hi hd rfl, k.dI hi hd rfl, k.dI hp hd rfl, k.dI hp hd rfl, e62, e63, e64, e65, e92]
    refine ⟨g3, g4, g5, g6, g7, g8, g9, g10, g11, g12, g13, fun l hl => ?_⟩
    have hlt := g2.2.1
    have hA := h50 a l hd
    rw [k.I (by omega) hA.1, k.I (by omega) hA.2, e66, e93]
    exact g14 l hl
  · rw [e92]
    refine ⟨(h5 j hj hj2).1, fun l hl => ?_⟩
    rw [e66, e93]
    exact (h5 j hj hj2).2 l hl
  · rw [e66, e93]
    exact h6 j l hj hl
  · rw [e93, e93]
    exact h7 j x y hj hx hy
  · rcases Nat.lt_or_ge a (wZ w) with q | q
    · have ha' : Dy w a 7 := ⟨ha.1, q, by rw [← k.T q]; exact ha.2.2⟩
      obtain ⟨j, g1, g2⟩ := h8 a ha'
      exact ⟨j, g1, by rw [e11]; exact g2⟩
    · exact (hn a q ha).elim
theorem Edi.kept (h : Edi w) (k : Kept P w w') (hz : 108 ≤ wZ w) (hp : ∀ a f, own w a f = 5 → P a f) (hi : ∀ a f, own w a f = 99 → P a f) (hn : NoNew w w' 8) : Edi w' := by
  obtain ⟨n, h1, h2, h3, h4, h5⟩ := h
  have e12 : ∀ f, wR w' 12 f = wR w 12 f := fun f => k.fR hz hp (by decide) rfl
  refine ⟨n, h1, by rw [k.fI hz hp (by decide) rfl]; exact h2, by rw [k.fI hz hp (by decide) rfl]; exact h3, fun j hj => ?_, fun a ha => ?_⟩
  · obtain ⟨a, b, g1, g2, g3, g4, g5, g6, g7, g8, g9, g10, g11, g12⟩ := h4 j hj
    refine ⟨a, b, by rw [e12]; exact g1, g2.kept k, ?_⟩
    rw [k.dI hi g2 rfl, k.dI hi g2 rfl, k.dI hi g2 rfl, k.dI hi g2 rfl, k.dR hi g2 rfl, k.dI hi g8 rfl, k.fI hz hp (by decide) rfl, k.fI hz hp (by decide) rfl, k.fI hz hp (by decide) rfl, k.fI hz hp (by decide) rfl]
    exact ⟨g3, g4, g5, g6, g7, g8.kept k, g9, g10, g11, g12⟩
  · rcases Nat.lt_or_ge a (wZ w) with q | q
    · have ha' : Dy w a 8 := ⟨ha.1, q, by rw [← k.T q]; exact ha.2.2⟩
      obtain ⟨j, g1, g2⟩ := h5 a ha'
      exact ⟨j, g1, by rw [e12]; exact g2⟩
    · exact (hn a q ha).elim
theorem ctag_own {c f : Nat} (hc : c ≤ 6) (hf : f ≠ 4) : ownD (ctag c) f = 99 := by
  rcases (show c = 0 ∨ c = 1 ∨ c = 2 ∨ c = 3 ∨ c = 4 ∨ c = 5 ∨ c = 6 by omega) with rfl | rfl | rfl | rfl | rfl | rfl | rfl
  all_goals first | rfl | exact if_neg hf
theorem Car.kept (h : Car w) (k : Kept P w w') (hz : 108 ≤ wZ w) (hp : ∀ a f, own w a f = 6 → P a f) (hi : ∀ a f, own w a f = 99 → P a f) : Car w' := by
  obtain ⟨n, h1, h2, h3, h4, h5⟩ := h
  have e77 : ∀ f, wI w' 77 f = wI w 77 f := fun f => k.fI hz hp (by decide) rfl
  refine ⟨n, h1, by rw [k.fI hz hp (by decide) rfl]; exact h2, by rw [k.fI hz hp (by decide) rfl]; exact h3, fun j hj => ?_, fun j hj hj2 => by rw [e77]; exact h5 j hj hj2⟩
  obtain ⟨a, c, g1, g2, g3, g4, g5, g6, g7, g8, g9, g10⟩ := h4 j hj
  refine ⟨a, c, by rw [k.fR hz hp (by decide) rfl]; exact g1, g2, g3.kept k, ?_⟩
  rw [k.dR hi g3 (ctag_own g2 (by decide)), k.dI hi g3 (ctag_own g2 (by decide)), k.dI hi g3 (ctag_own g2 (by decide)), k.dI hi g3 (ctag_own g2 (by decide)), e77, k.fI (a := 72) hz hp (by decide) rfl, k.fI (a := 73) hz hp (by decide) rfl, k.fI (a := 74) hz hp (by decide) rfl, k.fI (a := 75) hz hp (by decide) rfl]
  refine ⟨g4, g5, g6, g7, g8, fun hc => ?_, g10⟩
  subst hc
  rw [k.dI hp g3 rfl]
  exact g9 rfl
theorem Tra.kept (h : Tra w) (k : Kept P w w') (hz : 108 ≤ wZ w) (hp : ∀ a f, own w a f = 7 → P a f) : Tra w' := by
  obtain ⟨n, h1, h2, h3, h4⟩ := h
  refine ⟨n, h1, by rw [k.fI hz hp (by decide) rfl]; exact h2, by rw [k.fI hz hp (by decide) rfl]; exact h3, fun j hj => ?_⟩
  rw [k.fI hz hp (by decide) rfl, k.fI hz hp (by decide) rfl]
  exact h4 j hj
theorem Txt.kept (h : Txt w) (k : Kept P w w') (hz : 108 ≤ wZ w) (hp : ∀ a f, own w a f = 8 → P a f) : Txt w' := by
  obtain ⟨n, h1, h2, h3, h4⟩ := h
  refine ⟨n, h1, by rw [k.fI hz hp (by decide) rfl]; exact h2, by rw [k.fI hz hp (by decide) rfl]; exact h3, fun j hj => ?_⟩
  rw [k.fI hz hp (by decide) rfl, k.fI hz hp (by decide) (by show (if 2880 + j < 1920 then 9 else if 2880 + j < 2880 then 13 else 8) = 8; rw [if_neg (by omega), if_neg (by omega)])]
  exact h4 j hj
theorem Lea.kept (h : Lea w) (k : Kept P w w') (hz : 108 ≤ wZ w) (hp : ∀ a f, own w a f = 10 → P a f) : Lea w' := by
  obtain ⟨n, h1, h2, h3, h4⟩ := h
  refine ⟨n, h1, by rw [k.fI hz hp (by decide) rfl]; exact h2, by rw [k.fI hz hp (by decide) rfl]; exact h3, fun j hj => ?_⟩
  rw [k.fI (a := 20) hz hp (by decide) rfl, k.fI (a := 21) hz hp (by decide) rfl, k.fI (a := 22) hz hp (by decide) rfl, k.fI (a := 23) hz hp (by decide) rfl, k.fI (a := 84) hz hp (by decide) rfl, k.fI (a := 85) hz hp (by decide) rfl, k.fI (a := 86) hz hp (by decide) rfl, k.fI (a := 87) hz hp (by decide) rfl]
  exact h4 j hj
theorem Sli.kept (h : Sli w) (k : Kept P w w') (hz : 108 ≤ wZ w) (hp : ∀ a f, own w a f = 11 → P a f) (hi : ∀ a f, own w a f = 99 → P a f) : Sli w' := by
  obtain ⟨n, h1, h2, h3, h4⟩ := h
  have e24 : ∀ f, wR w' 24 f = wR w 24 f := fun f => k.fR hz hp (by decide) rfl
  refine ⟨n, h1, by rw [k.fI hz hp (by decide) rfl]; exact h2, by rw [k.fI hz hp (by decide) rfl]; exact h3, fun j hj => ?_⟩
  obtain ⟨a, g1, g2, g3⟩ := h4 j hj
  refine ⟨a, by rw [e24]; exact g1, g2.kept k, ?_⟩
  rw [k.dI hi g2 rfl, k.dI hi g2 rfl, k.dI hi g2 rfl, k.dI hi g2 rfl, k.dR hi g2 rfl, k.fI (a := 88) hz hp (by decide) rfl, k.fI (a := 89) hz hp (by decide) rfl, k.fI (a := 90) hz hp (by decide) rfl, k.fI (a := 91) hz hp (by decide) rfl]
  simp only [e24]
  exact g3
theorem Por.kept (h : Por w) (k : Kept P w w') (hz : 108 ≤ wZ w) (hp : ∀ a f, own w a f = 12 → P a f) : Por w' := by
  refine ⟨fun p j hp1 hj => ?_, fun j hj => ?_⟩
  · rw [k.fI hz hp (by omega) (own_port hp1), k.fI hz hp (by decide) rfl]
    exact h.1 p j hp1 hj
  · rw [k.fI hz hp (by decide) rfl]
    exact h.2 j hj
theorem Aim.kept (h : Aim w) (k : Kept P w w') (hz : 108 ≤ wZ w) (hp : ∀ a f, own w a f = 14 → P a f) : Aim w' := by
  obtain ⟨n, h1, h2, h3, h4, h5⟩ := h
  have e46 : ∀ f, wI w' 46 f = wI w 46 f := fun f => k.fI hz hp (by decide) rfl
  have e47 : ∀ f, wI w' 47 f = wI w 47 f := fun f => k.fI hz hp (by decide) rfl
  have e98 : ∀ f, wI w' 98 f = wI w 98 f := fun f => k.fI hz hp (by decide) rfl
  refine ⟨n, h1, by rw [k.fI hz hp (by decide) rfl]; exact h2, by rw [k.fI hz hp (by decide) rfl]; exact h3, fun j hj => ?_, fun e he => ?_⟩
  · rw [e46, e47]
    exact h4 j hj
  · simp only [e46, e47, e98]
    exact h5 e he
theorem Cop.kept (h : Cop w) (k : Kept P w w') (hz : 108 ≤ wZ w) (hp : ∀ a f, own w a f = 15 → P a f) (hi : ∀ a f, own w a f = 99 → P a f) : Cop w' := by
  obtain ⟨n, q, h1, h2, h3, h4, h5, h6, h7, h8⟩ := h
  refine ⟨n, q, h1, h2, by rw [k.fI hz hp (by decide) rfl]; exact h3, by rw [k.fI hz hp (by decide) rfl]; exact h4, by rw [k.fI hz hp (by decide) rfl]; exact h5, by rw [k.fI hz hp (by decide) rfl]; exact h6, fun c hc => ?_, fun j hj => ?_⟩
  · obtain ⟨a, g1, g2, g3⟩ := h7 c hc
    refine ⟨a, by rw [k.fR hz hp (by decide) rfl]; exact g1, g2.kept k, ?_⟩
    rw [k.dI hi g2 rfl, k.fI (a := 100) hz hp (by decide) rfl]
    exact g3
  · rw [k.fI (a := 49) hz hp (by decide) rfl, k.fI (a := 50) hz hp (by decide) rfl, k.fI (a := 51) hz hp (by decide) rfl, k.fI (a := 101) hz hp (by decide) rfl, k.fI (a := 102) hz hp (by decide) rfl, k.fI (a := 103) hz hp (by decide) rfl]
    exact h8 j hj
theorem Tap.kept (h : Tap w) (k : Kept P w w') (hz : 108 ≤ wZ w) (hp : ∀ a f, own w a f = 16 → P a f) (h50 : ∀ t r f, t < 6 → wR w (52 + t) 0 = some r → P r f) (hn : ∀ a, wZ w ≤ a → Dy w' a 7 → wZ w ≤ a) : Tap w' := by
  intro t ht
  have e104 : ∀ f, wI w' 104 f = wI w 104 f := fun f => k.fI hz hp (by decide) rfl
  have e105 : ∀ f, wI w' 105 f = wI w 105 f := fun f => k.fI hz hp (by decide) rfl
  have e106 : ∀ f, wL w' 106 f = wL w 106 f := fun f => k.fL hz hp (by decide) rfl
  have er : ∀ t, t < 6 → wR w' (52 + t) 0 = wR w (52 + t) 0 := fun t ht => k.fR hz hp (by omega) (own_tape ht)
  rcases h t ht with ⟨g1, g2, g3⟩ | ⟨r, s, n, g1, g2, g3, g4, g5, g6, g7, g8, g9, g10, g11, g12, g13, g14⟩
  · exact Or.inl ⟨by rw [e104]; exact g1, by rw [er t ht]; exact g2, by rw [e105]; exact g3⟩
  · have eI : ∀ f, wI w' r f = wI w r f := fun f => k.I g5 (h50 t r f ht g1)
    have eL : ∀ f, wL w' r f = wL w r f := fun f => k.L g5 (h50 t r f ht g1)
    refine Or.inr ⟨r, s, n, by rw [er t ht]; exact g1, g2, g3, g4, Nat.lt_of_lt_of_le g5 k.Z, by rw [k.T g5]; exact g6, by rw [e104]; exact g7, by rw [e105]; exact g8, ?_, ?_, ?_, ?_, ?_, ?_⟩
    · simp only [eI, eL, e106]
      exact g9
    · simp only [eI]
      exact g10
    · simp only [eI]
      exact g11
    · simp only [eI]
      exact g12
    · intro t' ht' hne
      rw [er t' ht']
      exact g13 t' ht' hne
    · intro b hb
      rcases Nat.lt_or_ge b (wZ w) with q | q
      · exact g14 b ⟨hb.1, q, by rw [← k.T q]; exact hb.2.2⟩
      · omega
theorem LsO.kept {l : Nat} {es : List Nat} (h : LsO w l es) (k : Kept P w w') (hi : ∀ a f, own w a f = 99 → P a f) : LsO w' l es := by
  obtain ⟨h1, h2, r, h3, h4, h5, h6, h7⟩ := h
  refine ⟨h1.kept k, by rw [k.dI hi h1 rfl]; exact h2, r, by rw [k.dR hi h1 rfl]; exact h3, h4.kept k, by rw [k.T h4.2.1]; exact h5, h6, fun j x hx => ?_⟩
  rw [k.dR hi h4 rfl]
  exact h7 j x hx
theorem TsO.kept (k : Kept P w w') (hi : ∀ a f, own w a f = 99 → P a f) : ∀ (d a : Nat) (φ : Tf), TsO w d a φ → TsO w' d a φ := by
  intro d
  induction d with
  | zero => intro a φ h; exact h
  | succ d ih =>
    intro a φ h
    rcases h with ⟨h1, h2, h3, h4⟩ | ⟨h1, b, ψ, h2, h3, h4⟩ | ⟨h1, l, es, ψ, h2, h3, h4, h5⟩
    · refine Or.inl ⟨h1.kept k, ?_⟩
      rw [k.dI hi h1 rfl, k.dI hi h1 rfl]
      exact ⟨h2, h3, h4⟩
    · refine Or.inr (Or.inl ⟨h1.kept k, b, ψ, ?_, ih b ψ h3, h4⟩)
      rw [k.dR hi h1 rfl]
      exact h2
    · refine Or.inr (Or.inr ⟨h1.kept k, l, es, ψ, ?_, h3.kept k hi, fun j x hx => ih x (ψ j) (h4 j x hx), ?_⟩)
      · rw [k.dR hi h1 rfl]
        exact h2
      · rw [k.dI hi h1 rfl]
        exact h5
theorem ClO.kept {a : Nat} {c : Cl} (h : ClO w a c) (k : Kept P w w') (hi : ∀ a f, own w a f = 99 → P a f) : ClO w' a c := by
  rcases h with ⟨h1, h2, h3⟩ | ⟨h1, h2, h3⟩ | ⟨h1, h2, h3⟩ | ⟨h1, h2, h3⟩ | ⟨h1, h2, b, h3, h4⟩ | ⟨h1, h2, h3⟩
  · exact Or.inl ⟨h1, h2.kept k, by rw [k.dI hi h2 rfl, k.dI hi h2 rfl]; exact h3⟩
  · exact Or.inr (Or.inl ⟨h1, h2.kept k, by rw [k.dI hi h2 rfl, k.dI hi h2 rfl]; exact h3⟩)
  · exact Or.inr (Or.inr (Or.inl ⟨h1, h2.kept k, by rw [k.dI hi h2 rfl, k.dI hi h2 rfl]; exact h3⟩))
  · exact Or.inr (Or.inr (Or.inr (Or.inl ⟨h1, h2.kept k, by rw [k.dI hi h2 rfl, k.dI hi h2 rfl]; exact h3⟩)))
  · exact Or.inr (Or.inr (Or.inr (Or.inr (Or.inl ⟨h1, h2.kept k, b, by rw [k.dR hi h2 rfl]; exact h3, TsO.kept k hi 30 b _ h4⟩))))
  · exact Or.inr (Or.inr (Or.inr (Or.inr (Or.inr ⟨h1, h2.kept k, by rw [k.dI hi h2 rfl, k.dI hi h2 rfl]; exact h3⟩))))
theorem DcO.kept {a : Nat} {cs : List Cl} (h : DcO w a cs) (k : Kept P w w') (hi : ∀ a f, own w a f = 99 → P a f) : DcO w' a cs := by
  obtain ⟨h1, l, es, h2, h3, h4, h5⟩ := h
  exact ⟨h1.kept k, l, es, by rw [k.dR hi h1 rfl]; exact h2, h3.kept k hi, h4, fun j x c hx hc => (h5 j x c hx hc).kept k hi⟩
theorem own_80 {d k : Nat} (hd : d < 24) (hk : k < 120) : ownF 80 (120 * d + k) = if d < 16 then 9 else 13 := by
  show (if 120 * d + k < 1920 then 9 else if 120 * d + k < 2880 then 13 else 8) = _
  by_cases q : d < 16
  · rw [if_pos q, if_pos (by omega)]
  · rw [if_neg q, if_neg (by omega), if_pos (by omega)]
theorem own_81 {d : Nat} (hd : d < 24) : ownF 81 d = if d < 16 then 9 else 13 := by
  show (if d < 16 then 9 else if d < 24 then 13 else 0) = _
  by_cases q : d < 16
  · rw [if_pos q, if_pos q]
  · rw [if_neg q, if_neg q, if_pos hd]
theorem Tx.kept {d : Nat} {cs : List Cl} (h : Tx w d cs) (k : Kept P w w') (hz : 108 ≤ wZ w) (hd : d < 24) (hp : ∀ a f, own w a f = (if d < 16 then 9 else 13) → P a f) : Tx w' d cs := by
  obtain ⟨s, h1, h2, h3⟩ := h
  refine ⟨s, h1, by rw [k.fI hz hp (by decide) (own_81 hd)]; exact h2, ?_⟩
  rw [hr_cong (t' := txw w d) (fun j hj => by unfold txw; rw [k.fI hz hp (by decide) (own_80 hd (by omega))])]
  exact h3
theorem Dec.kept (h : Dec w) (k : Kept P w w') (hz : 108 ≤ wZ w) (hp : ∀ a f, own w a f = 9 → P a f) (hi : ∀ a f, own w a f = 99 → P a f) : Dec w' := by
  obtain ⟨n, h1, h2, h3, h4, h5⟩ := h
  have e17 : ∀ f, wR w' 17 f = wR w 17 f := fun f => k.fR hz hp (by decide) rfl
  refine ⟨n, h1, by rw [k.fI hz hp (by decide) rfl]; exact h2, by rw [k.fI hz hp (by decide) rfl]; exact h3, fun d hd => ?_, fun d d' h6 h7 => by rw [e17, e17]; exact h5 d d' h6 h7⟩
  obtain ⟨a, cs, g1, g2, g3, g4⟩ := h4 d hd
  refine ⟨a, cs, by rw [e17]; exact g1, g2.kept k hi, g3.kept k hz (by omega) (by rw [if_pos (by omega)]; exact hp), ?_⟩
  rw [k.dI hp g2.1 rfl, k.dI hp g2.1 rfl, k.fI (a := 78) hz hp (by decide) rfl, k.fI (a := 79) hz hp (by decide) rfl]
  exact g4
theorem Cho.kept (h : Cho w) (k : Kept P w w') (hz : 108 ≤ wZ w) (hp : ∀ a f, own w a f = 13 → P a f) (hi : ∀ a f, own w a f = 99 → P a f) : Cho w' := by
  obtain ⟨n, h1, h2, h3, h4⟩ := h
  refine ⟨n, h1, by rw [k.fI hz hp (by decide) rfl]; exact h2, by rw [k.fI hz hp (by decide) rfl]; exact h3, fun c hc => ?_⟩
  obtain ⟨a, x, g1, g2, g3, g4⟩ := h4 c hc
  exact ⟨a, x, by rw [k.fR hz hp (by decide) rfl]; exact g1, g2.kept k hi, g3, g4.kept k hz (by omega) (by rw [if_neg (by omega)]; exact hp)⟩
end KP
