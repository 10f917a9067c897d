/-! PURE PART: act -/
def ranX (w : Wd) (b : Int32) : Wd := if (20 : Int32) ≤ wI w 14 1 then sI w 14 1 (wI w 14 1 + 1) else sI (sI w 15 (wI w 14 1).toNatClampNeg b) 14 1 (wI w 14 1 + 1)
def ranM (w : Wd) (b : Int32) : Wd := if (20 : Int32) ≤ wI w 58 18 then sI w 58 18 (wI w 58 18 + 1) else sI (sI w 76 (wI w 58 18).toNatClampNeg b) 58 18 (wI w 58 18 + 1)
def runX (w : Wd) (bs : List Int32) : Wd := bs.foldl ranX w
def runM (w : Wd) (bs : List Int32) : Wd := bs.foldl ranM w
/-- the trace alone has changed, n bodies have run, f are kept -/
def RcX (w0 w : Wd) (n : Nat) (f : Nat → Int32) : Prop := (∀ a k, ¬ (a = 14 ∧ k = 1) → a ≠ 15 → wI w a k = wI w0 a k) ∧ (∀ a k, wR w a k = wR w0 a k) ∧ (∀ a, wT w a = wT w0 a) ∧ (wZ w = wZ w0 ∧ ∀ a k, wL w a k = wL w0 a k) ∧ wI w 14 1 = Int32.ofNat n ∧ ∀ k, k < 20 → wI w 15 k = f k
def RcM (w0 w : Wd) (n : Nat) (f : Nat → Int32) : Prop := (∀ a k, ¬ (a = 58 ∧ k = 18) → a ≠ 76 → wI w a k = wI w0 a k) ∧ (∀ a k, wR w a k = wR w0 a k) ∧ (∀ a, wT w a = wT w0 a) ∧ (wZ w = wZ w0 ∧ ∀ a k, wL w a k = wL w0 a k) ∧ wI w 58 18 = Int32.ofNat n ∧ ∀ k, k < 20 → wI w 76 k = f k
def tr1 (n : Nat) (f : Nat → Int32) (b : Int32) : Nat → Int32 := fun k => if k = n then b else f k
def trc : List Int32 → Nat → (Nat → Int32) → Nat → Int32
  | [], _, f => f
  | b :: bs, n, f => trc bs (n + 1) (tr1 n f b)
theorem RcX.ran {w0 w : Wd} {n : Nat} {f : Nat → Int32} (h : RcX w0 w n f) (hn : n ≤ 1000) (b : Int32) : RcX w0 (ranX w b) (n + 1) (tr1 n f b) := by
  obtain ⟨h1, h2, h3, h4, h5, h6⟩ := h
  unfold ranX
  rw [h5, i_add_1]
  by_cases q : 20 ≤ n
  · rw [if_pos (show (20 : Int32) ≤ Int32.ofNat n from (i_le (a := 20) (by decide) (by omega)).mpr q)]
    refine ⟨fun a k e1 e2 => ?_, h2, h3, h4, wI_eq _, fun k hk => ?_⟩
    · rw [wI_sI, if_neg e1]
      exact h1 a k e1 e2
    · rw [wI_ne _ (by decide), h6 k hk]
      unfold tr1
      rw [if_neg (by omega)]
  · rw [if_neg (show ¬ (20 : Int32) ≤ Int32.ofNat n from fun r => q ((i_le (a := 20) (by decide) (by omega)).mp r)), tn_i (by omega)]
    refine ⟨fun a k e1 e2 => ?_, h2, h3, h4, wI_eq _, fun k hk => ?_⟩
    · rw [wI_sI, if_neg e1, wI_ne _ e2]
      exact h1 a k e1 e2
    · rw [wI_ne _ (by decide), wI_sI]
      unfold tr1
      by_cases e : k = n
      · rw [if_pos ⟨rfl, e⟩, if_pos e]
      · rw [if_neg (fun r => e r.2), if_neg e]
        exact h6 k hk
theorem RcM.ran {w0 w : Wd} {n : Nat} {f : Nat → Int32} (h : RcM w0 w n f) (hn : n ≤ 1000) (b : Int32) : RcM w0 (ranM w b) (n + 1) (tr1 n f b) := by
  obtain ⟨h1, h2, h3, h4, h5, h6⟩ := h
  unfold ranM
  rw [h5, i_add_1]
  by_cases q : 20 ≤ n
  · rw [if_pos (show (20 : Int32) ≤ Int32.ofNat n from (i_le (a := 20) (by decide) (by omega)).mpr q)]
    refine ⟨fun a k e1 e2 => ?_, h2, h3, h4, wI_eq _, fun k hk => ?_⟩
    · rw [wI_sI, if_neg e1]
      exact h1 a k e1 e2
    · rw [wI_ne _ (by decide), h6 k hk]
      unfold tr1
      rw [if_neg (by omega)]
  · rw [if_neg (show ¬ (20 : Int32) ≤ Int32.ofNat n from fun r => q ((i_le (a := 20) (by decide) (by omega)).mp r)), tn_i (by omega)]
    refine ⟨fun a k e1 e2 => ?_, h2, h3, h4, wI_eq _, fun k hk => ?_⟩
    · rw [wI_sI, if_neg e1, wI_ne _ e2]
      exact h1 a k e1 e2
    · rw [wI_ne _ (by decide), wI_sI]
      unfold tr1
      by_cases e : k = n
      · rw [if_pos ⟨rfl, e⟩, if_pos e]
      · rw [if_neg (fun r => e r.2), if_neg e]
        exact h6 k hk
/-- a card of the class -/
def CF (w : Wd) (a c : Nat) (k E V : Int32) : Prop := wR w a 0 = some 14 ∧ (wT w a).1 = ctag c ∧ c ≤ 6 ∧ wI w a 1 = k ∧ wI w a 2 = E ∧ wI w a 3 = V ∧ 108 ≤ a ∧ wT w 14 = (2, 0) ∧ wR w 14 0 = some 15 ∧ wT w 15 = (200, 20)
/-- a call on it: bodies bs run, the answer is r -/
def SX (w0 : Wd) (F : Wd → Option (Int32 × Wd)) (bs : List Int32) (r : Int32) : Prop := ∀ w n f, RcX w0 w n f → n + bs.length ≤ 1000 → ∃ w', F w = some (r, w') ∧ RcX w0 w' (n + bs.length) (trc bs n f)
def SM (w0 : Wd) (F : Wd → Option (Int32 × Wd)) (bs : List Int32) (r : Int32) : Prop := ∀ w n f, RcM w0 w n f → n + bs.length ≤ 1000 → ∃ w', F w = some (r, w') ∧ RcM w0 w' (n + bs.length) (trc bs n f)
theorem trc_app (bs cs : List Int32) : ∀ n f, trc (bs ++ cs) n f = trc cs (n + bs.length) (trc bs n f) := by
  induction bs with
  | nil => intro n f; rfl
  | cons b bs ih =>
    intro n f
    show trc (bs ++ cs) (n + 1) (tr1 n f b) = trc cs (n + (bs.length + 1)) (trc bs (n + 1) (tr1 n f b))
    rw [ih, show n + (bs.length + 1) = n + 1 + bs.length by omega]
theorem ran_X {w0 w : Wd} {n : Nat} {f : Nat → Int32} {a c : Nat} {k E V : Int32} (C : CF w0 a c k E V) (h : RcX w0 w n f) (hn : n ≤ 1000) (b : Int32) : f_X1_ran 14 b w = some (ranX w b) := by
  obtain ⟨-, -, -, -, -, -, -, -, c9, c10⟩ := C
  obtain ⟨h1, h2, h3, h4, h5, h6⟩ := h
  unfold f_X1_ran ranX
  by_cases q : (20 : Int32) ≤ wI w 14 1
  · rw [if_pos q, if_pos q]
  · have hq : n < 20 := by
      rw [h5, show (20 : Int32) = Int32.ofNat 20 from rfl, i_le (by omega) (by omega)] at q
      omega
    rw [if_neg q, if_neg q, h2, c9, Option.bind_some, h3, c10, if_pos rfl, h5, if_pos ((inb_i (by omega)).mpr hq), wI_ne _ (by decide), h5]
theorem ran_M {w0 w : Wd} {n : Nat} {f : Nat → Int32} (h : RcM w0 w n f) (hn : n ≤ 1000) (b : Int32) : f_X4_body b w = some (ranM w b) := by
  obtain ⟨h1, h2, h3, h4, h5, h6⟩ := h
  unfold f_X4_body ranM
  by_cases q : (20 : Int32) ≤ wI w 58 18
  · rw [if_pos q, if_pos q]
  · have hq : n < 20 := by
      rw [h5, show (20 : Int32) = Int32.ofNat 20 from rfl, i_le (by omega) (by omega)] at q
      omega
    rw [if_neg q, if_neg q, h5, if_pos ((inb_i (by omega)).mpr hq)]
section AX
variable {w0 : Wd} {a c : Nat} {k E V : Int32}
/-- a body of the class runs, then the rest -/
theorem sx_body (C : CF w0 a c k E V) {b : Int32} {bs : List Int32} {r : Int32} {F G : Wd → Option (Int32 × Wd)} (hG : SX w0 G bs r)
    (hF : ∀ w w1, wR w a 0 = some 14 → (wT w 14).1 = 2 → f_X1_ran 14 b w = some w1 → (wT w1 a).1 = ctag c → F w = G w1) : SX w0 F (b :: bs) r := by
  intro w n f hR hn
  have hn1 : n ≤ 1000 := by simp only [List.length_cons] at hn; omega
  have e := ran_X C hR hn1 b
  have hR1 := hR.ran hn1 b
  obtain ⟨w', h1, h2⟩ := hG (ranX w b) (n + 1) _ hR1 (by simp only [List.length_cons] at hn; omega)
  refine ⟨w', ?_, ?_⟩
  · rw [hF w (ranX w b) (by rw [hR.2.1]; exact C.1) (by rw [hR.2.2.1]; exact congrArg Prod.fst C.2.2.2.2.2.2.2.1) e (by rw [hR1.2.2.1]; exact C.2.1)]
    exact h1
  · rw [show n + (b :: bs).length = n + 1 + bs.length by simp only [List.length_cons]; omega]
    exact h2
theorem sx_then {bs cs : List Int32} {r s u : Int32} {F G H : Wd → Option (Int32 × Wd)} (hF : SX w0 F bs r) (hG : SX w0 G cs s) (hH : ∀ w w1 w2, F w = some (r, w1) → G w1 = some (s, w2) → (∀ b, wT w1 b = wT w0 b) → H w = some (u, w2)) : SX w0 H (bs ++ cs) u := by
  intro w n f hR hn
  simp only [List.length_append] at hn
  obtain ⟨w1, h1, h2⟩ := hF w n f hR (by omega)
  obtain ⟨w2, h3, h4⟩ := hG w1 _ _ h2 (by omega)
  refine ⟨w2, hH w w1 w2 h1 h3 h2.2.2.1, ?_⟩
  rw [List.length_append, trc_app, ← Nat.add_assoc]
  exact h4
/-- what is read off a card behind a call -/
theorem sx_read {bs : List Int32} {r s : Int32} {F H : Wd → Option (Int32 × Wd)} (hF : SX w0 F bs r) (hH : ∀ w w1, F w = some (r, w1) → (wT w1 a).1 = (wT w0 a).1 → (∀ k, 108 ≤ a → wI w1 a k = wI w0 a k) → H w = some (s, w1)) : SX w0 H bs s := by
  intro w n f hR hn
  obtain ⟨w1, h1, h2⟩ := hF w n f hR hn
  exact ⟨w1, hH w w1 h1 (by rw [h2.2.2.1]) (fun k ha => h2.1 a k (by omega) (by omega)), h2⟩
theorem sx_pure {r : Int32} {F : Wd → Option (Int32 × Wd)} (hF : ∀ w, (wT w a).1 = (wT w0 a).1 → (∀ k, 108 ≤ a → wI w a k = wI w0 a k) → F w = some (r, w)) : SX w0 F [] r := by
  intro w n f hR hn
  exact ⟨w, hF w (by rw [hR.2.2.1]) (fun k ha => hR.1 a k (by omega) (by omega)), hR⟩
def barsV (c : Nat) (x V : Int32) : Int32 := if c = 2 then -(x + V) else if c = 3 ∨ c = 4 then x + 1 + V else x + V
def barsL (c : Nat) : List Int32 := if c = 2 then [30, 10] else if c = 3 ∨ c = 4 then [41, 10] else [10]
def hangsV (c : Nat) (x k E V : Int32) : Int32 := if 1 ≤ c ∧ c ≤ 4 then (barsV c x V - E) ^^^ k else if c = 5 then barsV c (x * 3) V - E else barsV c x V - E
def hangsL (c : Nat) : List Int32 := if 1 ≤ c ∧ c ≤ 4 then 20 :: 11 :: barsL c else if c = 5 then 60 :: 11 :: barsL c else 11 :: barsL c
def passesV (c : Nat) (x k E V : Int32) : Int32 := if c = 3 then hangsV c x k E V * 2 + barsV c x V else if c = 4 then hangsV c x k E V * 2 + barsV c x V - hangsV c 1 k E V else if c = 6 then barsV c x V ^^^ (hangsV c x k E V * 2) else hangsV c x k E V * 2
def passesL (c : Nat) : List Int32 := if c = 3 then 40 :: (12 :: hangsL c ++ barsL c) else if c = 4 then 50 :: ((40 :: (12 :: hangsL c ++ barsL c)) ++ hangsL c) else if c = 6 then 70 :: (barsL c ++ (12 :: hangsL c)) else 12 :: hangsL c
theorem x_bars8 (C : CF w0 a c k E V) (x : Int32) : SX w0 (f_X8_bars a x) [10] (x + V) := by
  have tg := ctag_bd C.2.2.1
  refine sx_body C (G := fun w => some (x + wI w a 3, w)) (sx_pure (a := a) (fun w _ h2 => by rw [h2 3 C.2.2.2.2.2.2.1, C.2.2.2.2.2.1])) (fun w w1 e1 e2 e3 e4 => ?_)
  unfold f_X8_bars
  rw [e1, Option.bind_some, if_pos e2, e3, Option.bind_some, if_pos (by rw [e4]; exact tg)]
theorem x_bars10 (C : CF w0 a c k E V) (x : Int32) : SX w0 (f_X10_bars a x) [30, 10] (-(x + V)) := by
  have tg := ctag_bd C.2.2.1
  refine sx_body C (G := fun w => (f_X8_bars a x w).bind fun q7 => some (-q7.1, q7.2)) (sx_read (a := a) (x_bars8 C x) (fun w w1 h _ _ => by rw [h, Option.bind_some])) (fun w w1 e1 e2 e3 e4 => ?_)
  unfold f_X10_bars
  rw [e1, Option.bind_some, if_pos e2, e3, Option.bind_some, if_pos (by rw [e4]; exact tg)]
theorem x_bars11 (C : CF w0 a c k E V) (x : Int32) : SX w0 (f_X11_bars a x) [41, 10] (x + 1 + V) := by
  have tg := ctag_bd C.2.2.1
  refine sx_body C (G := fun w => (f_X8_bars a (x + 1) w).bind fun q7 => some (q7.1, q7.2)) (sx_read (a := a) (x_bars8 C (x + 1)) (fun w w1 h _ _ => by rw [h, Option.bind_some])) (fun w w1 e1 e2 e3 e4 => ?_)
  unfold f_X11_bars
  rw [e1, Option.bind_some, if_pos e2, e3, Option.bind_some, if_pos (by rw [e4]; exact tg)]
/-- a call by the tag -/
theorem sx_tag (C : CF w0 a c k E V) {bs : List Int32} {r : Int32} {F G : Wd → Option (Int32 × Wd)} (hG : SX w0 G bs r) (hF : ∀ w, (wT w a).1 = ctag c → F w = G w) : SX w0 F bs r := by
  intro w n f hR hn
  obtain ⟨w', h1, h2⟩ := hG w n f hR hn
  exact ⟨w', by rw [hF w (by rw [hR.2.2.1]; exact C.2.1)]; exact h1, h2⟩
theorem x_bars (C : CF w0 a c k E V) (x : Int32) : SX w0 (v_X8_bars a x) (barsL c) (barsV c x V) := by
  have hc := C.2.2.1
  rcases (show c = 0 ∨ c = 1 ∨ c = 2 ∨ c = 3 ∨ c = 4 ∨ c = 5 ∨ c = 6 by omega) with rfl | rfl | rfl | rfl | rfl | rfl | rfl
  · exact sx_tag C (x_bars8 C x) (fun w e => by unfold v_X8_bars; rw [e]; rfl)
  · exact sx_tag C (x_bars8 C x) (fun w e => by unfold v_X8_bars; rw [e]; rfl)
  · exact sx_tag C (x_bars10 C x) (fun w e => by unfold v_X8_bars; rw [e]; rfl)
  · exact sx_tag C (x_bars11 C x) (fun w e => by unfold v_X8_bars; rw [e]; rfl)
  · exact sx_tag C (x_bars11 C x) (fun w e => by unfold v_X8_bars; rw [e]; rfl)
  · exact sx_tag C (x_bars8 C x) (fun w e => by unfold v_X8_bars; rw [e]; rfl)
  · exact sx_tag C (x_bars8 C x) (fun w e => by unfold v_X8_bars; rw [e]; rfl)
theorem x_hangs8 (C : CF w0 a c k E V) (x : Int32) : SX w0 (f_X8_hangs a x) (11 :: barsL c) (barsV c x V - E) := by
  have tg := ctag_bd C.2.2.1
  refine sx_body C (G := fun w => (v_X8_bars a x w).bind fun q6 => if 9 ≤ (wT q6.2 a).1 ∧ (wT q6.2 a).1 ≤ 15 then (some (q6.1 - (wI q6.2 a 2), q6.2)) else none) (sx_read (a := a) (x_bars C x) (fun w w1 h h1 h2 => ?_)) (fun w w1 e1 e2 e3 e4 => ?_)
  · rw [h, Option.bind_some]
    dsimp only
    rw [if_pos (by rw [h1, C.2.1]; exact tg), h2 2 C.2.2.2.2.2.2.1, C.2.2.2.2.1]
  · unfold f_X8_hangs
    rw [e1, Option.bind_some, if_pos e2, e3, Option.bind_some]
theorem x_hangs9 (C : CF w0 a c k E V) (x : Int32) : SX w0 (f_X9_hangs a x) (20 :: 11 :: barsL c) ((barsV c x V - E) ^^^ k) := by
  have tg := ctag_bd C.2.2.1
  refine sx_body C (G := fun w => (f_X8_hangs a x w).bind fun q7 => if 9 ≤ (wT q7.2 a).1 ∧ (wT q7.2 a).1 ≤ 15 then (some (q7.1 ^^^ (wI q7.2 a 1), q7.2)) else none) (sx_read (a := a) (x_hangs8 C x) (fun w w1 h h1 h2 => ?_)) (fun w w1 e1 e2 e3 e4 => ?_)
  · rw [h, Option.bind_some]
    dsimp only
    rw [if_pos (by rw [h1, C.2.1]; exact tg), h2 1 C.2.2.2.2.2.2.1, C.2.2.2.1]
  · unfold f_X9_hangs
    rw [e1, Option.bind_some, if_pos e2, e3, Option.bind_some, if_pos (by rw [e4]; exact tg)]
theorem x_hangs12 (C : CF w0 a c k E V) (x : Int32) : SX w0 (f_X12_hangs a x) (60 :: 11 :: barsL c) (barsV c (x * 3) V - E) := by
  have tg := ctag_bd C.2.2.1
  refine sx_body C (G := fun w => (f_X8_hangs a (x * 3) w).bind fun q7 => some (q7.1, q7.2)) (sx_read (a := a) (x_hangs8 C (x * 3)) (fun w w1 h _ _ => by rw [h, Option.bind_some])) (fun w w1 e1 e2 e3 e4 => ?_)
  unfold f_X12_hangs
  rw [e1, Option.bind_some, if_pos e2, e3, Option.bind_some, if_pos (by rw [e4]; exact tg)]
theorem x_hangs (C : CF w0 a c k E V) (x : Int32) : SX w0 (v_X8_hangs a x) (hangsL c) (hangsV c x k E V) := by
  have hc := C.2.2.1
  rcases (show c = 0 ∨ c = 1 ∨ c = 2 ∨ c = 3 ∨ c = 4 ∨ c = 5 ∨ c = 6 by omega) with rfl | rfl | rfl | rfl | rfl | rfl | rfl
  · exact sx_tag C (x_hangs8 C x) (fun w e => by unfold v_X8_hangs; rw [e]; rfl)
  · exact sx_tag C (x_hangs9 C x) (fun w e => by unfold v_X8_hangs; rw [e]; rfl)
  · exact sx_tag C (x_hangs9 C x) (fun w e => by unfold v_X8_hangs; rw [e]; rfl)
  · exact sx_tag C (x_hangs9 C x) (fun w e => by unfold v_X8_hangs; rw [e]; rfl)
  · exact sx_tag C (x_hangs9 C x) (fun w e => by unfold v_X8_hangs; rw [e]; rfl)
  · exact sx_tag C (x_hangs12 C x) (fun w e => by unfold v_X8_hangs; rw [e]; rfl)
  · exact sx_tag C (x_hangs8 C x) (fun w e => by unfold v_X8_hangs; rw [e]; rfl)
theorem x_passes8 (C : CF w0 a c k E V) (x : Int32) : SX w0 (f_X8_passes a x) (12 :: hangsL c) (hangsV c x k E V * 2) := by
  refine sx_body C (G := fun w => (v_X8_hangs a x w).bind fun q6 => some (q6.1 * 2, q6.2)) (sx_read (a := a) (x_hangs C x) (fun w w1 h _ _ => by rw [h, Option.bind_some])) (fun w w1 e1 e2 e3 e4 => ?_)
  unfold f_X8_passes
  rw [e1, Option.bind_some, if_pos e2, e3, Option.bind_some]
theorem x_passes11 (C : CF w0 a c k E V) (hc : c = 3 ∨ c = 4) (x : Int32) : SX w0 (f_X11_passes a x) (40 :: (12 :: hangsL c ++ barsL c)) (hangsV c x k E V * 2 + barsV c x V) := by
  have tg := ctag_bd C.2.2.1
  have hb : SX w0 (v_X11_bars a x) (barsL c) (barsV c x V) := by
    refine sx_tag C (x_bars C x) (fun w e => ?_)
    unfold v_X11_bars v_X8_bars
    rw [e]
    rcases hc with rfl | rfl <;> rfl
  refine sx_body C (G := fun w => (f_X8_passes a x w).bind fun q7 => (v_X11_bars a x q7.2).bind fun q11 => some (q7.1 + q11.1, q11.2)) (sx_then (x_passes8 C x) hb (fun w w1 w2 h1 h2 _ => ?_)) (fun w w1 e1 e2 e3 e4 => ?_)
  · rw [h1, Option.bind_some]
    dsimp only
    rw [h2, Option.bind_some]
  · unfold f_X11_passes
    rw [e1, Option.bind_some, if_pos e2, e3, Option.bind_some, if_pos (by rw [e4]; exact tg)]
theorem x_passes (C : CF w0 a c k E V) (x : Int32) : SX w0 (v_X8_passes a x) (passesL c) (passesV c x k E V) := by
  have hc := C.2.2.1
  have tg := ctag_bd hc
  rcases (show c = 0 ∨ c = 1 ∨ c = 2 ∨ c = 3 ∨ c = 4 ∨ c = 5 ∨ c = 6 by omega) with rfl | rfl | rfl | rfl | rfl | rfl | rfl
  · exact sx_tag C (x_passes8 C x) (fun w e => by unfold v_X8_passes; rw [e]; rfl)
  · exact sx_tag C (x_passes8 C x) (fun w e => by unfold v_X8_passes; rw [e]; rfl)
  · exact sx_tag C (x_passes8 C x) (fun w e => by unfold v_X8_passes; rw [e]; rfl)
  · exact sx_tag C (x_passes11 C (Or.inl rfl) x) (fun w e => by unfold v_X8_passes; rw [e]; rfl)
  · have hh : SX w0 (v_X14_hangs a 1) (hangsL 4) (hangsV 4 1 k E V) := sx_tag C (x_hangs C 1) (fun w e => by unfold v_X14_hangs v_X8_hangs; rw [e]; rfl)
    have hp : SX w0 (f_X14_passes a x) (passesL 4) (passesV 4 x k E V) := by
      refine sx_body C (G := fun w => (f_X11_passes a x w).bind fun q7 => (v_X14_hangs a 1 q7.2).bind fun q11 => some (q7.1 - q11.1, q11.2)) (sx_then (x_passes11 C (Or.inr rfl) x) hh (fun w w1 w2 h1 h2 _ => ?_)) (fun w w1 e1 e2 e3 e4 => ?_)
      · rw [h1, Option.bind_some]
        dsimp only
        rw [h2, Option.bind_some]
        rfl
      · unfold f_X14_passes
        rw [e1, Option.bind_some, if_pos e2, e3, Option.bind_some, if_pos (by rw [e4]; exact tg)]
    exact sx_tag C hp (fun w e => by unfold v_X8_passes; rw [e]; rfl)
  · exact sx_tag C (x_passes8 C x) (fun w e => by unfold v_X8_passes; rw [e]; rfl)
  · have hb : SX w0 (v_X13_bars a x) (barsL 6) (barsV 6 x V) := sx_tag C (x_bars C x) (fun w e => by unfold v_X13_bars v_X8_bars; rw [e]; rfl)
    have hp : SX w0 (f_X13_passes a x) (passesL 6) (passesV 6 x k E V) := by
      refine sx_body C (G := fun w => (v_X13_bars a x w).bind fun q6 => if 9 ≤ (wT q6.2 a).1 ∧ (wT q6.2 a).1 ≤ 15 then ((f_X8_passes a x q6.2).bind fun q11 => some (q6.1 ^^^ q11.1, q11.2)) else none) (sx_then hb (x_passes8 C x) (fun w w1 w2 h1 h2 h3 => ?_)) (fun w w1 e1 e2 e3 e4 => ?_)
      · rw [h1, Option.bind_some]
        dsimp only
        rw [if_pos (by rw [h3, C.2.1]; exact tg), h2, Option.bind_some]
        rfl
      · unfold f_X13_passes
        rw [e1, Option.bind_some, if_pos e2, e3, Option.bind_some]
    exact sx_tag C hp (fun w e => by unfold v_X8_passes; rw [e]; rfl)
end AX
section AM
variable {w0 : Wd} {k c : Nat} {E V : Int32}
def CM (w : Wd) (k c : Nat) (E V : Int32) : Prop := k < 50 ∧ c ≤ 6 ∧ wI w 73 k = E ∧ wI w 74 k = V
theorem sm_body {b : Int32} {bs : List Int32} {r : Int32} {F G : Wd → Option (Int32 × Wd)} (hG : SM w0 G bs r) (hF : ∀ w w1, f_X4_body b w = some w1 → F w = G w1) : SM w0 F (b :: bs) r := by
  intro w n f hR hn
  have hn1 : n ≤ 1000 := by simp only [List.length_cons] at hn; omega
  have hR1 := hR.ran hn1 b
  obtain ⟨w', h1, h2⟩ := hG (ranM w b) (n + 1) _ hR1 (by simp only [List.length_cons] at hn; omega)
  refine ⟨w', by rw [hF w (ranM w b) (ran_M hR hn1 b)]; exact h1, ?_⟩
  rw [show n + (b :: bs).length = n + 1 + bs.length by simp only [List.length_cons]; omega]
  exact h2
theorem sm_then {bs cs : List Int32} {r s u : Int32} {F G H : Wd → Option (Int32 × Wd)} (hF : SM w0 F bs r) (hG : SM w0 G cs s) (hH : ∀ w w1 w2, F w = some (r, w1) → G w1 = some (s, w2) → H w = some (u, w2)) : SM w0 H (bs ++ cs) u := by
  intro w n f hR hn
  simp only [List.length_append] at hn
  obtain ⟨w1, h1, h2⟩ := hF w n f hR (by omega)
  obtain ⟨w2, h3, h4⟩ := hG w1 _ _ h2 (by omega)
  refine ⟨w2, hH w w1 w2 h1 h3, ?_⟩
  rw [List.length_append, trc_app, ← Nat.add_assoc]
  exact h4
theorem sm_read {bs : List Int32} {r s : Int32} {F H : Wd → Option (Int32 × Wd)} (hF : SM w0 F bs r) (hH : ∀ w w1, F w = some (r, w1) → (∀ k, wI w1 73 k = wI w0 73 k) → H w = some (s, w1)) : SM w0 H bs s := by
  intro w n f hR hn
  obtain ⟨w1, h1, h2⟩ := hF w n f hR hn
  exact ⟨w1, hH w w1 h1 (fun k => h2.1 73 k (by omega) (by omega)), h2⟩
theorem m_plain (C : CM w0 k c E V) (x : Int32) : SM w0 (f_X4_plainBars (Int32.ofNat k) x) [10] (x + V) := by
  refine sm_body (G := fun w => if inb (Int32.ofNat k) 50 then (some (x + (wI w 74 (Int32.ofNat k).toNatClampNeg), w)) else none) (fun w n f hR _ => ⟨w, ?_, hR⟩) (fun w w1 e => ?_)
  · dsimp only
    rw [if_pos ((inb_i (by have := C.1; omega)).mpr C.1), tn_i (by have := C.1; omega), hR.1 74 k (by omega) (by omega), C.2.2.2]
  · unfold f_X4_plainBars
    rw [e, Option.bind_some]
theorem m_bars (C : CM w0 k c E V) (x : Int32) : SM w0 (f_X4_barsOf (Int32.ofNat k) (Int32.ofNat c) x) (barsL c) (barsV c x V) := by
  have hc := C.2.1
  rcases (show c = 0 ∨ c = 1 ∨ c = 2 ∨ c = 3 ∨ c = 4 ∨ c = 5 ∨ c = 6 by omega) with rfl | rfl | rfl | rfl | rfl | rfl | rfl
  · exact sm_read (m_plain C x) (fun w w1 h _ => by unfold f_X4_barsOf; rw [if_neg (by decide), if_neg (by decide), if_neg (by decide), h]; rfl)
  · exact sm_read (m_plain C x) (fun w w1 h _ => by unfold f_X4_barsOf; rw [if_neg (by decide), if_neg (by decide), if_neg (by decide), h]; rfl)
  · exact sm_body (G := fun w => (f_X4_plainBars (Int32.ofNat k) x w).bind fun q => some (-q.1, q.2)) (sm_read (m_plain C x) (fun w w1 h _ => by rw [h]; rfl)) (fun w w1 e => by unfold f_X4_barsOf; rw [if_pos (by decide), e]; rfl)
  · exact sm_body (G := fun w => (f_X4_plainBars (Int32.ofNat k) (x + 1) w).bind fun q => some (q.1, q.2)) (sm_read (m_plain C (x + 1)) (fun w w1 h _ => by rw [h]; rfl)) (fun w w1 e => by unfold f_X4_barsOf; rw [if_neg (by decide), if_pos (by decide), e]; rfl)
  · exact sm_body (G := fun w => (f_X4_plainBars (Int32.ofNat k) (x + 1) w).bind fun q => some (q.1, q.2)) (sm_read (m_plain C (x + 1)) (fun w w1 h _ => by rw [h]; rfl)) (fun w w1 e => by unfold f_X4_barsOf; rw [if_neg (by decide), if_neg (by decide), if_pos (by decide), e]; rfl)
  · exact sm_read (m_plain C x) (fun w w1 h _ => by unfold f_X4_barsOf; rw [if_neg (by decide), if_neg (by decide), if_neg (by decide), h]; rfl)
  · exact sm_read (m_plain C x) (fun w w1 h _ => by unfold f_X4_barsOf; rw [if_neg (by decide), if_neg (by decide), if_neg (by decide), h]; rfl)
theorem m_phangs (C : CM w0 k c E V) (x : Int32) : SM w0 (f_X4_plainHangs (Int32.ofNat k) (Int32.ofNat c) x) (11 :: barsL c) (barsV c x V - E) := by
  refine sm_body (G := fun w => (f_X4_barsOf (Int32.ofNat k) (Int32.ofNat c) x w).bind fun q3 => if inb (Int32.ofNat k) 50 then (some (q3.1 - (wI q3.2 73 (Int32.ofNat k).toNatClampNeg), q3.2)) else none) (sm_read (m_bars C x) (fun w w1 h h1 => ?_)) (fun w w1 e => ?_)
  · rw [h, Option.bind_some]
    dsimp only
    rw [if_pos ((inb_i (by have := C.1; omega)).mpr C.1), tn_i (by have := C.1; omega), h1, C.2.2.1]
  · unfold f_X4_plainHangs
    rw [e, Option.bind_some]
theorem m_hangs (C : CM w0 k c E V) (x : Int32) : SM w0 (f_X4_hangsOf (Int32.ofNat k) (Int32.ofNat c) x) (hangsL c) (hangsV c x (Int32.ofNat k) E V) := by
  have hc := C.2.1
  rcases (show c = 0 ∨ c = 1 ∨ c = 2 ∨ c = 3 ∨ c = 4 ∨ c = 5 ∨ c = 6 by omega) with rfl | rfl | rfl | rfl | rfl | rfl | rfl
  · exact sm_read (m_phangs C x) (fun w w1 h _ => by unfold f_X4_hangsOf; rw [inM, if_neg (by decide), if_neg (by decide), h]; rfl)
  · exact sm_body (G := fun w => (f_X4_plainHangs (Int32.ofNat k) (Int32.ofNat 1) x w).bind fun q => some (q.1 ^^^ Int32.ofNat k, q.2)) (sm_read (m_phangs C x) (fun w w1 h _ => by rw [h]; rfl)) (fun w w1 e => by unfold f_X4_hangsOf; rw [inM, if_pos (by decide), e]; rfl)
  · exact sm_body (G := fun w => (f_X4_plainHangs (Int32.ofNat k) (Int32.ofNat 2) x w).bind fun q => some (q.1 ^^^ Int32.ofNat k, q.2)) (sm_read (m_phangs C x) (fun w w1 h _ => by rw [h]; rfl)) (fun w w1 e => by unfold f_X4_hangsOf; rw [inM, if_pos (by decide), e]; rfl)
  · exact sm_body (G := fun w => (f_X4_plainHangs (Int32.ofNat k) (Int32.ofNat 3) x w).bind fun q => some (q.1 ^^^ Int32.ofNat k, q.2)) (sm_read (m_phangs C x) (fun w w1 h _ => by rw [h]; rfl)) (fun w w1 e => by unfold f_X4_hangsOf; rw [inM, if_pos (by decide), e]; rfl)
  · exact sm_body (G := fun w => (f_X4_plainHangs (Int32.ofNat k) (Int32.ofNat 4) x w).bind fun q => some (q.1 ^^^ Int32.ofNat k, q.2)) (sm_read (m_phangs C x) (fun w w1 h _ => by rw [h]; rfl)) (fun w w1 e => by unfold f_X4_hangsOf; rw [inM, if_pos (by decide), e]; rfl)
  · exact sm_body (G := fun w => (f_X4_plainHangs (Int32.ofNat k) (Int32.ofNat 5) (x * 3) w).bind fun q => some (q.1, q.2)) (sm_read (m_phangs C (x * 3)) (fun w w1 h _ => by rw [h]; rfl)) (fun w w1 e => by unfold f_X4_hangsOf; rw [inM, if_neg (by decide), if_pos (by decide), e]; rfl)
  · exact sm_read (m_phangs C x) (fun w w1 h _ => by unfold f_X4_hangsOf; rw [inM, if_neg (by decide), if_neg (by decide), h]; rfl)
theorem m_ppasses (C : CM w0 k c E V) (x : Int32) : SM w0 (f_X4_plainPasses (Int32.ofNat k) (Int32.ofNat c) x) (12 :: hangsL c) (hangsV c x (Int32.ofNat k) E V * 2) :=
  sm_body (G := fun w => (f_X4_hangsOf (Int32.ofNat k) (Int32.ofNat c) x w).bind fun q => some (q.1 * 2, q.2)) (sm_read (m_hangs C x) (fun w w1 h _ => by rw [h]; rfl)) (fun w w1 e => by unfold f_X4_plainPasses; rw [e]; rfl)
theorem m_spasses (C : CM w0 k c E V) (x : Int32) : SM w0 (f_X4_struckPasses (Int32.ofNat k) (Int32.ofNat c) x) (40 :: (12 :: hangsL c ++ barsL c)) (hangsV c x (Int32.ofNat k) E V * 2 + barsV c x V) := by
  refine sm_body (G := fun w => (f_X4_plainPasses (Int32.ofNat k) (Int32.ofNat c) x w).bind fun q3 => (f_X4_barsOf (Int32.ofNat k) (Int32.ofNat c) x q3.2).bind fun q5 => some (q3.1 + q5.1, q5.2)) (sm_then (m_ppasses C x) (m_bars C x) (fun w w1 w2 h1 h2 => ?_)) (fun w w1 e => by unfold f_X4_struckPasses; rw [e]; rfl)
  rw [h1, Option.bind_some]
  dsimp only
  rw [h2, Option.bind_some]
theorem m_passes (C : CM w0 k c E V) (x : Int32) : SM w0 (f_X4_passesOf (Int32.ofNat k) (Int32.ofNat c) x) (passesL c) (passesV c x (Int32.ofNat k) E V) := by
  have hc := C.2.1
  rcases (show c = 0 ∨ c = 1 ∨ c = 2 ∨ c = 3 ∨ c = 4 ∨ c = 5 ∨ c = 6 by omega) with rfl | rfl | rfl | rfl | rfl | rfl | rfl
  · exact sm_read (m_ppasses C x) (fun w w1 h _ => by unfold f_X4_passesOf; rw [if_neg (by decide), if_neg (by decide), if_neg (by decide), h]; rfl)
  · exact sm_read (m_ppasses C x) (fun w w1 h _ => by unfold f_X4_passesOf; rw [if_neg (by decide), if_neg (by decide), if_neg (by decide), h]; rfl)
  · exact sm_read (m_ppasses C x) (fun w w1 h _ => by unfold f_X4_passesOf; rw [if_neg (by decide), if_neg (by decide), if_neg (by decide), h]; rfl)
  · exact sm_read (m_spasses C x) (fun w w1 h _ => by unfold f_X4_passesOf; rw [if_pos (by decide), h]; rfl)
  · refine sm_body (G := fun w => (f_X4_struckPasses (Int32.ofNat k) (Int32.ofNat 4) x w).bind fun q14 => (f_X4_hangsOf (Int32.ofNat k) (Int32.ofNat 4) 1 q14.2).bind fun q16 => some (q14.1 - q16.1, q16.2)) (sm_then (m_spasses C x) (m_hangs C 1) (fun w w1 w2 h1 h2 => ?_)) (fun w w1 e => by unfold f_X4_passesOf; rw [if_neg (by decide), if_pos (by decide), e]; rfl)
    rw [h1, Option.bind_some]
    dsimp only
    rw [h2, Option.bind_some]
    rfl
  · exact sm_read (m_ppasses C x) (fun w w1 h _ => by unfold f_X4_passesOf; rw [if_neg (by decide), if_neg (by decide), if_neg (by decide), h]; rfl)
  · refine sm_body (G := fun w => (f_X4_barsOf (Int32.ofNat k) (Int32.ofNat 6) x w).bind fun q8 => (f_X4_plainPasses (Int32.ofNat k) (Int32.ofNat 6) x q8.2).bind fun q10 => some (q8.1 ^^^ q10.1, q10.2)) (sm_then (m_bars C x) (m_ppasses C x) (fun w w1 w2 h1 h2 => ?_)) (fun w w1 e => by unfold f_X4_passesOf; rw [if_neg (by decide), if_neg (by decide), if_pos (by decide), e]; rfl)
    rw [h1, Option.bind_some]
    dsimp only
    rw [h2, Option.bind_some]
    rfl
end AM
theorem L_le : ∀ c, c < 7 → (barsL c).length ≤ 30 ∧ (hangsL c).length ≤ 30 ∧ (passesL c).length ≤ 30 := by decide
theorem st_11 {j : Nat} {w : Wd} {a1 a2 a3 a4 a5 : Int32} (h : Inv j w) : ∃ w2, okc_11 a1 a2 a3 a4 a5 w w2 ∧ Inv (j + 1) w2 := by
  obtain ⟨n, hn, hx, hm, hk, h0⟩ := id h.car
  obtain ⟨tn, htn, tx, tm, tk⟩ := id h.tra
  have hz := h.z8
  have hF := h.1
  have rx : RcX (sI w 14 1 0) (sI w 14 1 0) 0 (fun k => wI w 15 k) := ⟨fun _ _ _ _ => rfl, fun _ _ => rfl, fun _ => rfl, ⟨rfl, fun _ _ => rfl⟩, wI_eq _, fun k _ => by rw [wI_ne _ (by decide)]⟩
  -- the end, whatever has run
  have fin : ∀ (w1 w2 : Wd) (m : Nat) (f : Nat → Int32), m ≤ 1000 → RcX (sI w 14 1 0) w1 m f → RcM (sI w1 58 18 0) w2 m f → Inv (j + 1) w2 := by
    intro w1 w2 m f hm9 h1 h2
    have k2 : Kept (But 7 w) w w2 := by
      refine ⟨fun a k ha hb => ?_, fun a ha => ?_, by rw [h2.2.2.2.1.1, wZ_sI, h1.2.2.2.1.1]; exact Nat.le_refl _⟩
      · have q1 : ¬ (a = 14 ∧ k = 1) := by rintro ⟨rfl, rfl⟩; exact hb.1 rfl
        have q2 : a ≠ 15 := by rintro rfl; exact hb.1 rfl
        have q3 : ¬ (a = 58 ∧ k = 18) := by rintro ⟨rfl, rfl⟩; exact hb.1 rfl
        have q4 : a ≠ 76 := by rintro rfl; exact hb.1 rfl
        refine ⟨?_, ?_, ?_⟩
        · rw [h2.1 a k q3 q4, wI_sI, if_neg q3, h1.1 a k q1 q2, wI_sI, if_neg q1]
        · rw [h2.2.2.2.1.2, wL_sI, h1.2.2.2.1.2, wL_sI]
        · rw [h2.2.1, wR_sI, h1.2.1, wR_sI]
      · rw [h2.2.2.1, wT_sI, h1.2.2.1, wT_sI]
    have hz2 : wZ w2 = wZ w := by rw [h2.2.2.2.1.1, wZ_sI, h1.2.2.2.1.1]; rfl
    refine Inv.m7 (h.rest' k2 (fun _ => noNew_of hz2 7) (fun _ => noNew_of hz2 8) (by decide)) ⟨m, hm9, ?_, h2.2.2.2.2.1, fun k hk9 => ?_⟩ (by have := h.2.1; omega)
    · rw [h2.1 14 1 (by omega) (by omega), wI_ne _ (by decide)]
      exact h1.2.2.2.2.1
    · rw [h2.1 15 k (by omega) (by omega), wI_ne _ (by decide), h1.2.2.2.2.2 k hk9, h2.2.2.2.2.2 k hk9]
  have rm : ∀ (w1 : Wd) (m : Nat) (f : Nat → Int32), RcX (sI w 14 1 0) w1 m f → RcM (sI w1 58 18 0) (sI w1 58 18 0) 0 (fun k => wI w 15 k) := fun w1 m f h1 =>
    ⟨fun _ _ _ _ => rfl, fun _ _ => rfl, fun _ => rfl, ⟨rfl, fun _ _ => rfl⟩, wI_eq _, fun k hk9 => by rw [wI_ne _ (by decide), h1.1 76 k (by omega) (by omega), wI_ne _ (by decide)]; exact (tk k hk9).symm⟩
  have e0 : wI (sI w 14 1 0) 0 9 = Int32.ofNat n := by rw [wI_ne _ (by decide)]; exact hx
  have em : ∀ (w1 : Wd) (m : Nat) (f : Nat → Int32), RcX (sI w 14 1 0) w1 m f → wI (sI w1 58 18 0) 58 17 = Int32.ofNat n := fun w1 m f h1 => by rw [wI_nf _ (by decide), h1.1 58 17 (by omega) (by omega), wI_ne _ (by decide)]; exact hm
  by_cases c1 : inB a1 0 (Int32.ofNat n - 1) = true
  rotate_left
  · have c1 := ne_of_tf c1
    refine ⟨sI (sI w 14 1 0) 58 18 0, ⟨0, 0, 0, sI w 14 1 0, ?_, ?_⟩, fin _ _ 0 _ (by omega) rx (rm _ _ _ rx)⟩
    · simp only [f_X0_act, inX, inM, f_X0_isTown, f_X4_isTown, f_X0_isDay, f_X4_isDay, f_X0_isBook, f_X4_isBook, f_X0_isEdition, f_X4_isEdition, f_X0_isCard, f_X4_isCard, f_X0_isPerson, f_X4_isPerson, f_X0_isCopy, f_X0_isTape, f_X4_isTape, f_X0_isBy, f_X4_isTime, f_X0_isDecree, f_X4_isSlip, e0, c1, ↓reduceIte, if_true, if_false, eq_self, ite_true, ite_false, Option.bind_some, not_true_eq_false, not_false_eq_true, Bool.false_eq_true]
    · simp only [f_X4_act, inX, inM, f_X0_isTown, f_X4_isTown, f_X0_isDay, f_X4_isDay, f_X0_isBook, f_X4_isBook, f_X0_isEdition, f_X4_isEdition, f_X0_isCard, f_X4_isCard, f_X0_isPerson, f_X4_isPerson, f_X0_isCopy, f_X0_isTape, f_X4_isTape, f_X0_isBy, f_X4_isTime, f_X0_isDecree, f_X4_isSlip, em _ _ _ rx, c1, ↓reduceIte, if_true, if_false, eq_self, ite_true, ite_false, Option.bind_some, not_true_eq_false, not_false_eq_true, Bool.false_eq_true]
  by_cases c2 : inB a2 0 2 = true
  rotate_left
  · have c2 := ne_of_tf c2
    refine ⟨sI (sI w 14 1 0) 58 18 0, ⟨0, 0, 0, sI w 14 1 0, ?_, ?_⟩, fin _ _ 0 _ (by omega) rx (rm _ _ _ rx)⟩
    · simp only [f_X0_act, inX, inM, f_X0_isTown, f_X4_isTown, f_X0_isDay, f_X4_isDay, f_X0_isBook, f_X4_isBook, f_X0_isEdition, f_X4_isEdition, f_X0_isCard, f_X4_isCard, f_X0_isPerson, f_X4_isPerson, f_X0_isCopy, f_X0_isTape, f_X4_isTape, f_X0_isBy, f_X4_isTime, f_X0_isDecree, f_X4_isSlip, e0, c1, c2, ↓reduceIte, if_true, if_false, eq_self, ite_true, ite_false, Option.bind_some, not_true_eq_false, not_false_eq_true, Bool.false_eq_true]
    · simp only [f_X4_act, inX, inM, f_X0_isTown, f_X4_isTown, f_X0_isDay, f_X4_isDay, f_X0_isBook, f_X4_isBook, f_X0_isEdition, f_X4_isEdition, f_X0_isCard, f_X4_isCard, f_X0_isPerson, f_X4_isPerson, f_X0_isCopy, f_X0_isTape, f_X4_isTape, f_X0_isBy, f_X4_isTime, f_X0_isDecree, f_X4_isSlip, em _ _ _ rx, c1, c2, ↓reduceIte, if_true, if_false, eq_self, ite_true, ite_false, Option.bind_some, not_true_eq_false, not_false_eq_true, Bool.false_eq_true]
  obtain ⟨k, hk1, rfl⟩ := inB_lt (by omega) c1
  obtain ⟨v, -, hv, rfl⟩ := inB_bd (lo := 0) (hi := 2) (by decide) (by decide) c2
  obtain ⟨a, c, g1, g2, g3, g4, g5, g6, g7, g8, g9, u1, u2, hu1, hu2, g10, g11⟩ := hk k hk1
  have hin : inb (Int32.ofNat k) 50 = True := inb_t (by omega) (by decide)
  have ga : wR w 13 (Int32.ofNat k).toNatClampNeg = some a := by rw [tn_i (by omega)]; exact g1
  have C : CF (sI w 14 1 0) a c (Int32.ofNat k) (wI w 73 k) (wI w 74 k) := by
    have := g3.1
    refine ⟨g4, g3.2.2, g2, ?_, ?_, ?_, g3.1, hF.2.1 14 (2, 0) rfl, hF.1 14 0 15 rfl, hF.2.1 15 (200, 20) rfl⟩
    · rw [wI_ne _ (by omega)]; exact g5
    · rw [wI_ne _ (by omega)]; exact g6
    · rw [wI_ne _ (by omega)]; exact g7
  have D : ∀ (w1 : Wd) (m : Nat) (f : Nat → Int32), RcX (sI w 14 1 0) w1 m f → CM (sI w1 58 18 0) k c (wI w 73 k) (wI w 74 k) := fun w1 m f h1 => by
    refine ⟨by omega, g2, ?_, ?_⟩
    · rw [wI_ne _ (by decide), h1.1 73 k (by omega) (by omega), wI_ne _ (by decide)]
    · rw [wI_ne _ (by decide), h1.1 74 k (by omega) (by omega), wI_ne _ (by decide)]
  have km : ∀ (w1 : Wd) (m : Nat) (f : Nat → Int32), RcX (sI w 14 1 0) w1 m f → f_X4_kindOf (Int32.ofNat k) (sI w1 58 18 0) = some (Int32.ofNat c) := fun w1 m f h1 => by
    refine kind_M (by omega) ?_
    rw [wI_ne _ (by decide), wI_ne _ (by decide), h1.1 77 k (by omega) (by omega), h1.1 72 k (by omega) (by omega), wI_ne _ (by decide), wI_ne _ (by decide)]
    exact g8
  have L := L_le c (by omega)
  rcases (show v = 0 ∨ v = 1 ∨ v = 2 by omega) with rfl | rfl | rfl
  · obtain ⟨w1, x1, x2⟩ := x_bars C a3 _ _ _ rx (by omega)
    obtain ⟨w2, y1, y2⟩ := m_bars (D _ _ _ x2) a3 _ _ _ (rm _ _ _ x2) (by omega)
    refine ⟨w2, ⟨0, 0, barsV c a3 (wI w 74 k), w1, ?_, ?_⟩, fin w1 w2 _ _ (by omega) x2 y2⟩
    · unfold f_X0_act
      rw [ga, Option.bind_some, x1, Option.bind_some]
      simp only [inX, inM, f_X0_isTown, f_X4_isTown, f_X0_isDay, f_X4_isDay, f_X0_isBook, f_X4_isBook, f_X0_isEdition, f_X4_isEdition, f_X0_isCard, f_X4_isCard, f_X0_isPerson, f_X4_isPerson, f_X0_isCopy, f_X0_isTape, f_X4_isTape, f_X0_isBy, f_X4_isTime, f_X0_isDecree, f_X4_isSlip, e0, c1, c2, hin, show (Int32.ofNat 0 = 0) = True from eq_true rfl, ↓reduceIte, if_true, if_false, eq_self, ite_true, ite_false, Option.bind_some, not_true_eq_false, not_false_eq_true, Bool.false_eq_true]
    · unfold f_X4_act
      rw [km _ _ _ x2, Option.bind_some, y1, Option.bind_some]
      simp only [inX, inM, f_X0_isTown, f_X4_isTown, f_X0_isDay, f_X4_isDay, f_X0_isBook, f_X4_isBook, f_X0_isEdition, f_X4_isEdition, f_X0_isCard, f_X4_isCard, f_X0_isPerson, f_X4_isPerson, f_X0_isCopy, f_X0_isTape, f_X4_isTape, f_X0_isBy, f_X4_isTime, f_X0_isDecree, f_X4_isSlip, em _ _ _ x2, c1, c2, show (Int32.ofNat 0 = 0) = True from eq_true rfl, ↓reduceIte, if_true, if_false, eq_self, ite_true, ite_false, Option.bind_some, not_true_eq_false, not_false_eq_true, Bool.false_eq_true]
  · obtain ⟨w1, x1, x2⟩ := x_hangs C a3 _ _ _ rx (by omega)
    obtain ⟨w2, y1, y2⟩ := m_hangs (D _ _ _ x2) a3 _ _ _ (rm _ _ _ x2) (by omega)
    refine ⟨w2, ⟨0, 0, hangsV c a3 (Int32.ofNat k) (wI w 73 k) (wI w 74 k), w1, ?_, ?_⟩, fin w1 w2 _ _ (by omega) x2 y2⟩
    · unfold f_X0_act
      rw [ga, Option.bind_some, Option.bind_some, Option.bind_some, x1, Option.bind_some]
      simp only [inX, inM, f_X0_isTown, f_X4_isTown, f_X0_isDay, f_X4_isDay, f_X0_isBook, f_X4_isBook, f_X0_isEdition, f_X4_isEdition, f_X0_isCard, f_X4_isCard, f_X0_isPerson, f_X4_isPerson, f_X0_isCopy, f_X0_isTape, f_X4_isTape, f_X0_isBy, f_X4_isTime, f_X0_isDecree, f_X4_isSlip, e0, c1, c2, hin, show (Int32.ofNat 1 = 0) = False from eq_false (by decide), show (Int32.ofNat 1 = 1) = True from eq_true rfl, ↓reduceIte, if_true, if_false, eq_self, ite_true, ite_false, Option.bind_some, not_true_eq_false, not_false_eq_true, Bool.false_eq_true]
    · unfold f_X4_act
      rw [km _ _ _ x2, Option.bind_some, y1, Option.bind_some]
      simp only [inX, inM, f_X0_isTown, f_X4_isTown, f_X0_isDay, f_X4_isDay, f_X0_isBook, f_X4_isBook, f_X0_isEdition, f_X4_isEdition, f_X0_isCard, f_X4_isCard, f_X0_isPerson, f_X4_isPerson, f_X0_isCopy, f_X0_isTape, f_X4_isTape, f_X0_isBy, f_X4_isTime, f_X0_isDecree, f_X4_isSlip, em _ _ _ x2, c1, c2, show (Int32.ofNat 1 = 0) = False from eq_false (by decide), show (Int32.ofNat 1 = 1) = True from eq_true rfl, ↓reduceIte, if_true, if_false, eq_self, ite_true, ite_false, Option.bind_some, not_true_eq_false, not_false_eq_true, Bool.false_eq_true]
  · obtain ⟨w1, x1, x2⟩ := x_passes C a3 _ _ _ rx (by omega)
    obtain ⟨w2, y1, y2⟩ := m_passes (D _ _ _ x2) a3 _ _ _ (rm _ _ _ x2) (by omega)
    refine ⟨w2, ⟨0, 0, passesV c a3 (Int32.ofNat k) (wI w 73 k) (wI w 74 k), w1, ?_, ?_⟩, fin w1 w2 _ _ (by omega) x2 y2⟩
    · unfold f_X0_act
      rw [ga, Option.bind_some, Option.bind_some, Option.bind_some, x1, Option.bind_some]
      simp only [inX, inM, f_X0_isTown, f_X4_isTown, f_X0_isDay, f_X4_isDay, f_X0_isBook, f_X4_isBook, f_X0_isEdition, f_X4_isEdition, f_X0_isCard, f_X4_isCard, f_X0_isPerson, f_X4_isPerson, f_X0_isCopy, f_X0_isTape, f_X4_isTape, f_X0_isBy, f_X4_isTime, f_X0_isDecree, f_X4_isSlip, e0, c1, c2, hin, show (Int32.ofNat 2 = 0) = False from eq_false (by decide), show (Int32.ofNat 2 = 1) = False from eq_false (by decide), ↓reduceIte, if_true, if_false, eq_self, ite_true, ite_false, Option.bind_some, not_true_eq_false, not_false_eq_true, Bool.false_eq_true]
    · unfold f_X4_act
      rw [km _ _ _ x2, Option.bind_some, y1, Option.bind_some]
      simp only [inX, inM, f_X0_isTown, f_X4_isTown, f_X0_isDay, f_X4_isDay, f_X0_isBook, f_X4_isBook, f_X0_isEdition, f_X4_isEdition, f_X0_isCard, f_X4_isCard, f_X0_isPerson, f_X4_isPerson, f_X0_isCopy, f_X0_isTape, f_X4_isTape, f_X0_isBy, f_X4_isTime, f_X0_isDecree, f_X4_isSlip, em _ _ _ x2, c1, c2, show (Int32.ofNat 2 = 0) = False from eq_false (by decide), show (Int32.ofNat 2 = 1) = False from eq_false (by decide), ↓reduceIte, if_true, if_false, eq_self, ite_true, ite_false, Option.bind_some, not_true_eq_false, not_false_eq_true, Bool.false_eq_true]
