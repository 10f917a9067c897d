/-! STRINGS of the old heap: their receivers -/
section STR
variable {p : Program} {l : Launch} {e : Env} {R : Room} {s : State} {m : MethodId} {args : Array Value} {below : List Frame} {meth : Method} {c : Code} {H : Heap} {locs : List Loc} {cells slots : Nat} {Q : State → Prop}
variable {G : Gw} {z : Nat} {H0 : Heap} {w : Wd} {k : Nat} {cs : List Int32}
theorem preVS {As : List Value} (hP : strF z H0 cs k s) (hK : KK G s) (hR : Rp G z H0 w H) (hF : Fix w) (hN : NW s) (hS : SW G z H0 s) : PreV s H "java/lang/String" k (pcQ G z H0 w (.ref k :: As) (strF z H0 cs k)) As := by
  refine ⟨pcQ.blind (fun u U h1 h2 => strF.moved h1 h2), ?_, fun U hU hW => ⟨⟨⟨rfl, hK.moved hW.alike, by rw [hU]; exact hR, hF, hN.warm hW⟩, hS.warm hW⟩, hP.moved hW.alike⟩⟩
  obtain ⟨v, ⟨cell, h1, h2, h3, h4⟩, -⟩ := hP
  exact ⟨cell, by rw [hR.2.1 k (Nat.not_le.mp h4)]; exact h1, h2, h3⟩
theorem nar_char {v : Int32} (h : (v.toUInt32 % 65536).toInt32 = v) : narrow .char (.int v) = .int v := by
  show Value.int _ = Value.int v
  congr 1
end STR
