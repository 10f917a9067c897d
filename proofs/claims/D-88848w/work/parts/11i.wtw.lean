/-! WIDENING for a thrown end -/
theorem WT.widen {p : Program} {l : Launch} {e : Env} {R : Room} {s : State} {m : MethodId} {args : Array Value} {below : List Frame} {meth : Method} {c : Code} {H : Heap} {locs : List Loc} {cells slots k n : Nat} {Q : State → Prop} {g : JFrame} {x : Addr} (hc : cells ≤ k) (hs : slots ≤ n)
    (h : WT p l e R s m args below meth c H locs k n Q g x) : WT p l e R s m args below meth c H locs cells slots Q g x := by
  intro T hT X
  exact h T hT (stand_widen X hc hs)
