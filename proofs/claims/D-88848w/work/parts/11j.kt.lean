/-! BEHIND a call of a method that may throw, when its end is known -/
def cvI (r : Int32 ⊕ Nat) : Option Value ⊕ Nat := r.elim (fun v => .inl (some (.int v))) .inr
def cvB (r : Bool ⊕ Nat) : Option Value ⊕ Nat := r.elim (fun v => .inl (some (.int (bI v)))) .inr
def cvR (z : Nat) (r : Option Nat ⊕ Nat) : Option Value ⊕ Nat := r.elim (fun v => .inl (some (rfv z v))) .inr
def cvV (r : Unit ⊕ Nat) : Option Value ⊕ Nat := r.elim (fun _ => .inl none) .inr
section KT
variable {p : Program} {l : Launch} {e : Env} {R : Room} {s : State} {m : MethodId} {args : Array Value} {below : List Frame} {meth : Method} {c : Code} {H : Heap} {locs : List Loc} {cells slots : Nat} {Q : State → Prop} {G : Gw} {z : Nat} {H0 : Heap} {w : Wd}
theorem k_TR {pc mc ms : Nat} {ls : Array Slot} {st0 rest st1 : List Value} {v : Option Value} {A : Array Value} (hr : RunT p l e R s m args below meth c H locs cells slots mc ms (F0 m pc ls st0) rest (qT G z H0 w (.inl v) A) (fun q => z ≤ q)) (hL : lok z locs) (h1 : v.toList ++ rest = st1)
    (kr : ∀ (H : Heap) (locs : List Loc), Rp G z H0 w H → Fix w → lok z locs → W p l e R s m args below meth c H locs (cells + mc) (slots + ms) Q (F0 m (pc + 3) ls st1)) : W p l e R s m args below meth c H locs cells slots Q (F0 m pc ls st0) := by
  refine k_T hr hL (fun v' st t H1 locs1 _ ht hq hl => ?_) (fun x st t H1 locs1 _ ht hq hl => ?_)
  · have e1 : v' = v := by
      have h9 : Outcome.returned v' = Outcome.returned v := hq.1
      cases h9
      rfl
    subst e1
    rw [h1]
    exact kr H1 locs1 (by rw [← ht]; exact hq.2.1) hq.2.2 hl
  · have h9 : Outcome.threw x = Outcome.returned v := hq.1
    cases h9
theorem k_TT {pc mc ms : Nat} {ls : Array Slot} {st0 rest : List Value} {x : Nat} {A : Array Value} (hr : RunT p l e R s m args below meth c H locs cells slots mc ms (F0 m pc ls st0) rest (qT G z H0 w (.inr x) A) (fun q => z ≤ q)) (hL : lok z locs)
    (kt : ∀ (H : Heap) (locs : List Loc), Rp G z H0 w H → Fix w → lok z locs → WT p l e R s m args below meth c H locs (cells + mc) (slots + ms) Q (F0 m pc ls rest) (z + x)) : W p l e R s m args below meth c H locs cells slots Q (F0 m pc ls st0) := by
  refine k_T hr hL (fun v' st t H1 locs1 _ ht hq hl => ?_) (fun x' st t H1 locs1 _ ht hq hl => ?_)
  · have h9 : Outcome.returned v' = Outcome.threw (z + x) := hq.1
    cases h9
  · have e1 : x' = z + x := by
      have h9 : Outcome.threw x' = Outcome.threw (z + x) := hq.1
      cases h9
      rfl
    subst e1
    exact kt H1 locs1 (by rw [← ht]; exact hq.2.1) hq.2.2 hl
end KT
