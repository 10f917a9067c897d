/-! PURE PART: farOf -/
theorem i_div {a b : Nat} (ha : a < 2147483648) (hb : b < 2147483648) : Int32.ofNat a / Int32.ofNat b = Int32.ofNat (a / b) := (Int32.ofNat_div ha hb).symm
theorem i_mod8 {k : Nat} (hk : k < 2147483648) : Int32.ofNat k - Int32.ofNat k / 8 * 8 = Int32.ofNat (k % 8) := by
  rw [show (8 : Int32) = Int32.ofNat 8 from rfl, i_div hk (by decide), i_mul, i_sub (by omega)]
  congr 1
  omega
theorem rls_bd {rd : Nat → Nat → Nat} {f : Nat → Nat} (h : ∀ v, v < 8 → f v ≤ 9999) (k v : Nat) (hv : v < 8) : rls rd f k v ≤ 9999 := Nat.le_trans (rls_le rd f k v) (h v hv)
/-- nobody's slots alone have changed -/
def Ask (w w' : Wd) : Prop := Kept (But 0 w) w w' ∧ wZ w' = wZ w
theorem Ask.rfl' {w : Wd} : Ask w w := ⟨Kept.rfl', rfl⟩
theorem But.mono {c : Nat} {w w1 : Wd} {P : Nat → Nat → Prop} (h : Kept P w w1) {a f : Nat} (ha : a < wZ w) (hb : But c w a f) : But c w1 a f := by
  unfold But at *
  rw [h.ow ha]
  exact hb
theorem Ask.trans {w w1 w2 : Wd} (h : Ask w w1) (h2 : Ask w1 w2) : Ask w w2 := by
  refine ⟨h.1.trans ?_, h2.2.trans h.2⟩
  exact h2.1.weak (fun a f ha hb => But.mono h.1 (by rw [← h.2]; exact ha) hb) |> fun k => ⟨fun a f ha hp => k.1 a f ha hp, k.2⟩
theorem Ask.sI {w w' : Wd} (h : Ask w w') {a f : Nat} {v : Int32} (ha : a < 108) (ho : ownF a f = 0) : Ask w (sI w' a f v) :=
  ⟨h.1.sI (fun _ hb => hb.2 (by rw [own_f ha, ho])), h.2⟩
theorem Ask.sL {w w' : Wd} (h : Ask w w') {a f : Nat} {v : Int64} (ha : a < 108) (ho : ownF a f = 0) : Ask w (sL w' a f v) :=
  ⟨h.1.sL (fun _ hb => hb.2 (by rw [own_f ha, ho])), h.2⟩
theorem Ask.sR {w w' : Wd} (h : Ask w w') {a f : Nat} {v : Option Nat} (ha : a < 108) (ho : ownF a f = 0) : Ask w (sR w' a f v) :=
  ⟨h.1.sR (fun _ hb => hb.2 (by rw [own_f ha, ho])), h.2⟩
theorem Ask.I {w w' : Wd} (h : Ask w w') (hz : 108 ≤ wZ w) {a f c : Nat} (ha : a < 108) (ho : ownF a f = c + 1) : wI w' a f = wI w a f := h.1.I (by omega) (by unfold But; rw [own_f ha, ho]; omega)
theorem Ask.L {w w' : Wd} (h : Ask w w') (hz : 108 ≤ wZ w) {a f c : Nat} (ha : a < 108) (ho : ownF a f = c + 1) : wL w' a f = wL w a f := h.1.L (by omega) (by unfold But; rw [own_f ha, ho]; omega)
theorem Ask.R {w w' : Wd} (h : Ask w w') (hz : 108 ≤ wZ w) {a f c : Nat} (ha : a < 108) (ho : ownF a f = c + 1) : wR w' a f = wR w a f := h.1.R (by omega) (by unfold But; rw [own_f ha, ho]; omega)
theorem farOf_ok {w : Wd} (hz : 108 ≤ wZ w) (hW : Way w) {t : Nat} (ht : t < 8) {n : Nat} (hn : 100 ≤ n) : ∃ w', f_X4_farOf n (Int32.ofNat t) w = some (wI w 2 t, w') ∧ Ask w w' := by
  obtain ⟨rd, wy, hok, hv⟩ := hW
  have rdb : ∀ a b, a < 8 → b < 8 → rd a b ≤ 9999 := fun a b ha hb => (hok.2.1 a b ha hb).2
  have h59 : ∀ w' k, Ask w w' → k < 64 → wI w' 59 k = Int32.ofNat (rd (k / 8) (k % 8)) := by
    intro w' k ha hk
    rw [ha.I hz (by decide) rfl, ← (hv (k / 8) (k % 8) (by omega) (by omega)).1]
    congr 1
    omega
  obtain ⟨t1, e1, p1⟩ := it_all (b := f_X4_farOf_L2 n (Int32.ofNat t)) (fun k s => s.1 = Int32.ofNat k ∧ Ask w s.2 ∧ ∀ v, v < k → wI s.2 71 v = Int32.ofNat (if v = 0 then 0 else 9999)) (fun s => Ask w s.2 ∧ ∀ v, v < 8 → wI s.2 71 v = Int32.ofNat (if v = 0 then 0 else 9999)) 8
    (by
      rintro k ⟨c, u⟩ hk ⟨rfl, ha, hf⟩
      unfold f_X4_farOf_L2
      dsimp only
      rw [if_neg (by rw [show (8 : Int32) = Int32.ofNat 8 from rfl, i_le (by omega) (by omega)]; omega)]
      by_cases c0 : k = 0
      · subst c0
        rw [if_pos (show Int32.ofNat 0 = 0 from rfl), if_pos (by rw [inb_i (by omega)]; omega)]
        refine ⟨_, rfl, rfl, ha.sI (by decide) rfl, fun v hv => ?_⟩
        rw [wI_sI, if_pos ⟨rfl, by rw [tn_i (by omega)]; omega⟩, if_pos (by omega)]
        rfl
      · rw [if_neg (by show ¬ Int32.ofNat k = Int32.ofNat 0; rw [i_inj (by omega) (by omega)]; exact c0), if_pos (by rw [inb_i (by omega)]; omega)]
        refine ⟨_, rfl, i_add k 1, ha.sI (by decide) rfl, fun v hv => ?_⟩
        rw [wI_sI, tn_i (by omega)]
        by_cases c1 : v = k
        · rw [if_pos ⟨rfl, c1⟩, if_neg (by omega)]
          rfl
        · rw [if_neg (by omega)]
          exact hf v (by omega))
    (by
      rintro ⟨c, u⟩ ⟨rfl, ha, hf⟩
      unfold f_X4_farOf_L2
      exact ⟨_, if_pos (by rw [show (8 : Int32) = Int32.ofNat 8 from rfl, i_le (by omega) (by omega)]; omega), ha, hf⟩) n ((0 : Int32), w) (by omega) ⟨rfl, Ask.rfl', fun v hv => absurd hv (Nat.not_lt_zero _)⟩
  have inner : ∀ (f : Nat → Nat), (∀ v, v < 8 → f v ≤ 9999) → ∀ (u : Wd) (tn : Int32), Ask w u → (∀ v, v < 8 → wI u 71 v = Int32.ofNat (f v)) → ∃ q, it n (f_X4_farOf_L41 n tn (Int32.ofNat t)) ((0 : Int32), u) = some q ∧ Ask w q.2 ∧ ∀ v, v < 8 → wI q.2 71 v = Int32.ofNat (rls rd f 64 v) := by
    intro f hfb u tn hu hf
    refine it_all (fun k s => s.1 = Int32.ofNat k ∧ Ask w s.2 ∧ ∀ v, v < 8 → wI s.2 71 v = Int32.ofNat (rls rd f k v)) _ 64 ?_ ?_ n ((0 : Int32), u) (by omega) ⟨rfl, hu, hf⟩
    · rintro k ⟨c, x⟩ hk ⟨rfl, ha, hx⟩
      have hx : ∀ v, v < 8 → wI x 71 v = Int32.ofNat (rls rd f k v) := hx
      have ha : Ask w x := ha
      have hd : Int32.ofNat k / 8 = Int32.ofNat (k / 8) := i_div (b := 8) (by omega) (by decide)
      unfold f_X4_farOf_L41
      dsimp only
      simp only [hd, i_mod8 (show k < 2147483648 by omega)]
      have hm : Int32.ofNat k - Int32.ofNat (k / 8) * 8 = Int32.ofNat (k % 8) := by rw [← hd]; exact i_mod8 (by omega)
      simp only [hm]
      rw [if_neg (by rw [show (64 : Int32) = Int32.ofNat 64 from rfl, i_le (by omega) (by omega)]; omega)]
      have g1 : inb (Int32.ofNat (k / 8)) 8 := by rw [inb_i (by omega)]; omega
      have g2 : inb (Int32.ofNat k) 64 := by rw [inb_i (by omega)]; omega
      have g3 : inb (Int32.ofNat (k % 8)) 8 := by rw [inb_i (by omega)]; omega
      have b1 := rls_bd hfb (rd := rd) k (k / 8) (by omega)
      have b2 := rls_bd hfb (rd := rd) k (k % 8) (by omega)
      have b3 := rdb (k / 8) (k % 8) (by omega) (by omega)
      rw [if_pos g1, if_pos g2, if_pos g3]
      simp only [tn_i (show k % 8 < 2147483648 by omega), tn_i (show k / 8 < 2147483648 by omega), tn_i (show k < 2147483648 by omega), hx (k % 8) (by omega), hx (k / 8) (by omega), h59 x k ha hk, i_add]
      by_cases c1 : rls rd f k (k / 8) + rd (k / 8) (k % 8) < rls rd f k (k % 8)
      · rw [if_neg (by rw [i_le (by omega) (by omega)]; omega), if_pos g1, if_pos g2, if_pos g3]
        refine ⟨_, rfl, i_add k 1, ha.sI (by decide) rfl, fun v hv => ?_⟩
        show wI (sI x 71 (k % 8) _) 71 v = Int32.ofNat (rlx rd (rls rd f k) k v)
        unfold rlx
        rw [if_pos c1, wI_sI]
        by_cases c2 : v = k % 8
        · rw [if_pos ⟨rfl, c2⟩, if_pos c2]
        · rw [if_neg (by omega), if_neg c2]
          exact hx v hv
      · rw [if_pos (by rw [i_le (by omega) (by omega)]; omega)]
        refine ⟨_, rfl, i_add k 1, ha, fun v hv => ?_⟩
        show wI x 71 v = Int32.ofNat (rlx rd (rls rd f k) k v)
        unfold rlx
        rw [if_neg c1]
        exact hx v hv
    · rintro ⟨c, x⟩ ⟨rfl, ha, hx⟩
      unfold f_X4_farOf_L41
      exact ⟨_, if_pos (by rw [show (64 : Int32) = Int32.ofNat 64 from rfl, i_le (by omega) (by omega)]; omega), ha, hx⟩
  have trb : ∀ k v, v < 8 → trn rd (fun v => if v = 0 then 0 else 9999) k v ≤ 9999 := by
    intro k
    induction k with
    | zero =>
      intro v hv
      show (if v = 0 then 0 else 9999) ≤ 9999
      split <;> omega
    | succ k ih => intro v hv; exact rls_bd ih 64 v hv
  obtain ⟨t2, e2, p2⟩ := it_all (b := f_X4_farOf_L33 n (Int32.ofNat t)) (fun k s => s.1 = Int32.ofNat k ∧ Ask w s.2 ∧ ∀ v, v < 8 → wI s.2 71 v = Int32.ofNat (trn rd (fun v => if v = 0 then 0 else 9999) k v)) (fun s => Ask w s.2 ∧ ∀ v, v < 8 → wI s.2 71 v = Int32.ofNat (trn rd (fun v => if v = 0 then 0 else 9999) 8 v)) 8
    (by
      rintro k ⟨c, u⟩ hk ⟨rfl, ha, hf⟩
      obtain ⟨q, h1, h2, h3⟩ := inner _ (trb k) u (Int32.ofNat k) ha hf
      unfold f_X4_farOf_L33
      rw [if_neg (by rw [show (8 : Int32) = Int32.ofNat 8 from rfl, i_le (by omega) (by omega)]; omega), h1]
      exact ⟨_, rfl, i_add k 1, h2, h3⟩)
    (by
      rintro ⟨c, u⟩ ⟨rfl, ha, hf⟩
      unfold f_X4_farOf_L33
      exact ⟨_, if_pos (by rw [show (8 : Int32) = Int32.ofNat 8 from rfl, i_le (by omega) (by omega)]; omega), ha, hf⟩) n ((0 : Int32), t1.2) (by omega) ⟨rfl, p1.1, p1.2⟩
  refine ⟨t2.2, ?_, p2.1⟩
  unfold f_X4_farOf
  rw [e1]
  show (it n (f_X4_farOf_L33 n (Int32.ofNat t)) ((0 : Int32), t1.2)).bind _ = _
  rw [e2]
  show (if inb (Int32.ofNat t) 8 then _ else none) = _
  rw [if_pos (by rw [inb_i (by omega)]; exact ht), tn_i (by omega), p2.2 t ht, (hv 0 t (by omega) ht).2, far_is hok (f := fun v => if v = 0 then 0 else 9999) (fun v hv9 => ?_) rfl t ht]
  have a1 := (hok.2.1 0 v (by omega) hv9).1
  have a2 := rdb 0 v (by omega) hv9
  have a3 := hok.1 0 (by omega)
  show wy 0 v ≤ if v = 0 then 0 else 9999
  split
  · rename_i e0
    rw [e0, a3]
    exact Nat.le_refl _
  · omega
