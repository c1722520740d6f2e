/-! ===== arrays of references: rows of events, stores, failures ===== -/
section AwRef
variable {Y : AwM} {d pc : Nat} {ls : List (Nat × AwV)} {st : List AwV} {G : AwH} {c cx : AwC}
theorem tk_ar1 {t a : Nat} (h : 26 ≤ t ∧ t < 39) (k : tk_ [t] a = true) : 26 ≤ tg_ a ∧ tg_ a < 39 := by rw [tk1 k]; exact h
theorem tk_row {a : Nat} (h : tk_ [26, 27, 28, 29, 30, 31] a = true) : ∃ u ty, aw_al[u]? = some ty ∧ aw_kd ty = 2 ∧ 6 ≤ u ∧ tg_ a = 20 + u := by
  have h1 : tg_ a ∈ [26, 27, 28, 29, 30, 31] := List.contains_iff_mem.mp h
  simp only [List.mem_cons, List.not_mem_nil, or_false] at h1
  rcases h1 with h1 | h1 | h1 | h1 | h1 | h1
  · exact ⟨6, _, rfl, rfl, by decide, h1⟩
  · exact ⟨7, _, rfl, rfl, by decide, h1⟩
  · exact ⟨8, _, rfl, rfl, by decide, h1⟩
  · exact ⟨9, _, rfl, rfl, by decide, h1⟩
  · exact ⟨10, _, rfl, rfl, by decide, h1⟩
  · exact ⟨11, _, rfl, rfl, by decide, h1⟩
theorem rw_aaloadR {x : Option Nat} {a : Nat} {i : Int32} (hd : decode Y.2.1 pc = .ok (.aaload, 1)) (hx : x = some a) (h : tk_ [26, 27, 28, 29, 30, 31] a = true) (hi : ib_ i (ln_ a) = true)
    (kk : RW Y d (pc + 1) ls (vA_ (gR_ G a (ix_ i)) :: st) G c) : RW Y d pc ls (vI_ i :: vA_ x :: st) G c := by
  obtain ⟨u, ty, h1, h2, h3, h4⟩ := tk_row h
  exact rw_aaload (u := u) hd h1 h2 h3 hx h4 hi kk
theorem rw_alenR {x : Option Nat} {a : Nat} (hd : decode Y.2.1 pc = .ok (.arraylength, 1)) (hx : x = some a) (h : tk_ [26, 27, 28, 29, 30, 31] a = true)
    (kk : RW Y d (pc + 1) ls (vI_ (nI (ln_ a)) :: st) G c) : RW Y d pc ls (vA_ x :: st) G c := by
  obtain ⟨u, ty, h1, h2, h3, h4⟩ := tk_row h
  exact rw_alen (u := u) hd h1 hx h4 kk
/-- y goes into the array a -/
def sa_ (y : Option Nat) (a : Nat) : Bool := match y with
  | none => decide (tg_ a ≠ 38)
  | some b => as_ok (tg_ b) (tg_ a)
theorem rw_aastore {x y : Option Nat} {a : Nat} {i : Int32} (hd : decode Y.2.1 pc = .ok (.aastore, 1)) (hx : x = some a) (h : 26 ≤ tg_ a ∧ tg_ a < 39) (hi : ib_ i (ln_ a) = true) (hs : sa_ y a = true)
    (kk : RW Y d (pc + 1) ls st (sR_ G a (ix_ i) y) c) : RW Y d pc ls (vA_ y :: vI_ i :: vA_ x :: st) G c := by
  have go : ∀ (u : Nat) (E : String), aw_al[u]? = some (.object E) → 6 ≤ u → tg_ a = 20 + u → (∀ t, as_ok t (20 + u) = true → ∃ r, aw_cl[t]? = some r ∧ (r.1 = E ∨ Cond.castable r.1 E ∈ lw_tbl)) → RW Y d pc ls (vA_ y :: vI_ i :: vA_ x :: st) G c := by
    intro u E h1 h2 h3 h4
    cases y with
    | none => exact rw_aastN hd h1 h2 hx h3 hi kk
    | some b => exact rw_aastO hd h1 h2 h4 hx h3 hi rfl (by rw [← h3]; exact hs) kk
  rcases (show tg_ a = 26 ∨ tg_ a = 27 ∨ tg_ a = 28 ∨ tg_ a = 29 ∨ tg_ a = 30 ∨ tg_ a = 31 ∨ tg_ a = 32 ∨ tg_ a = 33 ∨ tg_ a = 34 ∨ tg_ a = 35 ∨ tg_ a = 36 ∨ tg_ a = 37 ∨ tg_ a = 38 by omega) with q | q | q | q | q | q | q | q | q | q | q | q | q
  · exact go 6 _ rfl (by decide) q (fun t => as_ok6)
  · exact go 7 _ rfl (by decide) q (fun t => as_ok7)
  · exact go 8 _ rfl (by decide) q (fun t => as_ok8)
  · exact go 9 _ rfl (by decide) q (fun t => as_ok9)
  · exact go 10 _ rfl (by decide) q (fun t => as_ok10)
  · exact go 11 _ rfl (by decide) q (fun t => as_ok11)
  · exact go 12 _ rfl (by decide) q (fun t => as_ok12)
  · exact go 13 _ rfl (by decide) q (fun t => as_ok13)
  · exact go 14 _ rfl (by decide) q (fun t => as_ok14)
  · exact go 15 _ rfl (by decide) q (fun t => as_ok15)
  · exact go 16 _ rfl (by decide) q (fun t => as_ok16)
  · exact go 17 _ rfl (by decide) q (fun t => as_ok17)
  · cases y with
    | none => exact absurd q (of_decide_eq_true hs)
    | some b => exact rw_aast38 hd hx q hi rfl (by rw [← q]; exact hs) kk
/-- what is known of an array of references at an address -/
theorem aw_refarr {base : Nat} {D : va_G} {dA : Nat → ClassId} {ad : Nat → Nat} {s : State} {H : Heap} {a u : Nat} {ty : FieldType} (hT : aw_T D dA s) (hh : aw_hp base D dA ad G s H) (ha : a ∈ gA_ G) (hu : aw_al[u]? = some ty) (h6 : 6 ≤ u) (ht : tg_ a = 20 + u) :
    H[ad a]? = some (arrV (dA u) (ln_ a) (fun j => va_rf ((gR_ G a j).map ad))) ∧ s.isArrayOf (arrV (dA u) (ln_ a) (fun j => va_rf ((gR_ G a j).map ad))) ty := by
  obtain ⟨q0, -, hw⟩ := aw_ws_at (dA := dA) (ad := ad) ha
  rw [aw_en_a ht] at hw
  rw [show aw_ar u ad G a = .inr (.inr (.inr (.inr fun k => (gR_ G a k).map ad))) by unfold aw_ar; rw [if_neg (by omega), if_neg (by omega)]] at hw
  exact ⟨hh.2.1 q0 _ hw, (hT.1.2 _ _ (aw_tys_at dA hu)).1 (ln_ a) (fun j => va_rf ((gR_ G a j).map ad))⟩
theorem rw_aaloadRZ {x : Option Nat} {a : Nat} {i : Int32} (hd : decode Y.2.1 pc = .ok (.aaload, 1)) (hx : x = some a) (h : tk_ [26, 27, 28, 29, 30, 31] a = true) (hi : ¬ ib_ i (ln_ a) = true) (k : RX Y d pc ls (th_ G 3 1010) 1 cx) (hd0 : 0 < d := by decide) (hsz : aw_sz st ≤ 20 := by exact Nat.le_of_ble_eq_true rfl) : RW Y d pc ls (vI_ i :: vA_ x :: st) G cx := by
  subst hx
  obtain ⟨u, ty, h1, h2, h3, h4⟩ := tk_row h
  have hu := (List.getElem?_eq_some_iff.mp h1).1
  refine rw_thrM (x := 1) ⟨by decide, by decide⟩ hd0 st hsz ?_ k
  intro p l e R s m args below meth c H locs cells slots lsC Q base D dA ad hx9 hb hts hown hsz9 hT hh hok hN
  have ha : a ∈ gA_ G := aw_in_A (hok (vA_ (some a)) (by simp)) hh.2.2.2.1 (show a % 64 = 20 + u from h4) (by have : u < 19 := hu; omega)
  obtain ⟨c1, c2⟩ := aw_refarr hT hh ha h1 h3 h4
  intro T hT2 X
  obtain ⟨t, st2, q⟩ := hN _ (aw_tx_oob (i := i) (n := ln_ a) ln_lt rfl) T hT2 X
  refine ⟨t, ?_, q⟩
  have g1 := X.aaloadOut hx9 (by rw [hT2]; exact c1) c2 (j := i) (by rw [arrV_size]; exact Classical.byContradiction fun z => hi (vp_ib z)) (g := F0 m pc lsC ((vI_ i :: vA_ (some a) :: st).map (aw_cv ad))) rfl (rest := st.map (aw_cv ad)) rfl (by rw [hb]; exact hd) t
  simp only [arrV_size] at g1
  exact g1 st2
theorem rw_aastoreZ {x y : Option Nat} {a : Nat} {i : Int32} (hd : decode Y.2.1 pc = .ok (.aastore, 1)) (hx : x = some a) (h : tk_ [26, 27, 28, 29, 30, 31] a = true) (hi : ¬ ib_ i (ln_ a) = true) (k : RX Y d pc ls (th_ G 3 1010) 1 cx) (hd0 : 0 < d := by decide) (hsz : aw_sz st ≤ 20 := by exact Nat.le_of_ble_eq_true rfl) : RW Y d pc ls (vA_ y :: vI_ i :: vA_ x :: st) G cx := by
  subst hx
  obtain ⟨u, ty, h1, h2, h3, h4⟩ := tk_row h
  have hu := (List.getElem?_eq_some_iff.mp h1).1
  refine rw_thrM (x := 1) ⟨by decide, by decide⟩ hd0 st hsz ?_ k
  intro p l e R s m args below meth c H locs cells slots lsC Q base D dA ad hx9 hb hts hown hsz9 hT hh hok hN
  have ha : a ∈ gA_ G := aw_in_A (hok (vA_ (some a)) (by simp)) hh.2.2.2.1 (show a % 64 = 20 + u from h4) (by have : u < 19 := hu; omega)
  obtain ⟨c1, c2⟩ := aw_refarr hT hh ha h1 h3 h4
  intro T hT2 X
  obtain ⟨t, st2, q⟩ := hN _ (aw_tx_oob (i := i) (n := ln_ a) ln_lt rfl) T hT2 X
  refine ⟨t, ?_, q⟩
  have g1 := X.aastoreOut hx9 (v := va_rf (y.map ad)) (aw_rf_ref _) (by rw [hT2]; exact c1) c2 (j := i) (by rw [arrV_size]; exact Classical.byContradiction fun z => hi (vp_ib z)) (g := F0 m pc lsC ((vA_ y :: vI_ i :: vA_ (some a) :: st).map (aw_cv ad))) rfl (rest := st.map (aw_cv ad)) rfl (by rw [hb]; exact hd) t
  simp only [arrV_size] at g1
  exact g1 st2
end AwRef
