/-! small rules: switches, null tests of what is known -/
section AwMore
variable {Y : AwM} {d pc : Nat} {ls : List (Nat × AwV)} {st : List AwV} {G : AwH} {c : AwC}
theorem ts_outL {x : Int32} {lo n : Nat} (hn : lo + n < 2 ^ 31) (h : ∀ k, k < n → ¬ x = nI (lo + k)) : x.toInt < (lo : Int) ∨ ((lo + n : Nat) : Int) ≤ x.toInt := by
  by_cases h0 : x < 0
  · left
    have := Int32.lt_iff_toInt_lt.mp h0
    have h2 : x.toInt < 0 := by simpa using this
    omega
  · obtain ⟨j, hj, e⟩ := nI_of h0
    rw [e, nI_toInt hj]
    rcases Nat.lt_or_ge j lo with q | q
    · left; omega
    · right
      rcases Nat.lt_or_ge j (lo + n) with q2 | q2
      · exact absurd (show x = nI (lo + (j - lo)) by rw [e]; congr 1; omega) (h (j - lo) (by omega))
      · omega
theorem rw_ifnullS {a : Nat} {off : Int} {tgt : Nat} (hd : decode Y.2.1 pc = .ok (.ifnull off, 3)) (ht : (pc : Int) + off = (tgt : Int)) (k : RW Y d (pc + 3) ls st G c) : RW Y d pc ls (vA_ (some a) :: st) G c :=
  rw_ifnull (x := some a) (c := c) (f := fun _ => c) hd ht (fun h => nomatch h) (fun _ _ => k)
theorem rw_ifnonnullS {a : Nat} {off : Int} {tgt : Nat} (hd : decode Y.2.1 pc = .ok (.ifnonnull off, 3)) (ht : (pc : Int) + off = (tgt : Int)) (k : RW Y d tgt ls st G c) : RW Y d pc ls (vA_ (some a) :: st) G c :=
  rw_ifnonnull (x := some a) (c := c) (f := fun _ => c) hd ht (fun h => nomatch h) (fun _ _ => k)
end AwMore
