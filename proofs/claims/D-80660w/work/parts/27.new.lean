/-! ===== references into arrays, new objects and arrays ===== -/
/-- what may be stored into an array of the kind ta -/
def as_ok (t : Nat) : Nat → Bool
  | 26 => [12, 13, 14, 15, 16].contains t
  | 27 => [12, 13, 14].contains t
  | 28 => [13].contains t
  | 29 => [14].contains t
  | 30 => [15, 16].contains t
  | 31 => [16].contains t
  | 32 => [5, 6, 7, 8, 9, 10].contains t
  | 33 => [1].contains t
  | 34 => [2].contains t
  | 35 => [17].contains t
  | 36 => [11].contains t
  | 37 => [3].contains t
  | 38 => [26, 27, 28, 29, 30, 31].contains t
  | _ => false
theorem as_ok6 {t : Nat} (h : as_ok t 26 = true) : ∃ r, aw_cl[t]? = some r ∧ (r.1 = "StaveScore$Event" ∨ Cond.castable r.1 "StaveScore$Event" ∈ lw_tbl) := by
  have h1 : t ∈ [12, 13, 14, 15, 16] := List.contains_iff_mem.mp h
  simp only [List.mem_cons, List.not_mem_nil, or_false] at h1
  rcases h1 with rfl | rfl | rfl | rfl | rfl
  · exact ⟨_, rfl, Or.inr q1766⟩
  · exact ⟨_, rfl, Or.inr q1767⟩
  · exact ⟨_, rfl, Or.inr q1768⟩
  · exact ⟨_, rfl, Or.inr q1769⟩
  · exact ⟨_, rfl, Or.inr q1770⟩
theorem as_ok7 {t : Nat} (h : as_ok t 27 = true) : ∃ r, aw_cl[t]? = some r ∧ (r.1 = "StaveScore$Note" ∨ Cond.castable r.1 "StaveScore$Note" ∈ lw_tbl) := by
  have h1 : t ∈ [12, 13, 14] := List.contains_iff_mem.mp h
  simp only [List.mem_cons, List.not_mem_nil, or_false] at h1
  rcases h1 with rfl | rfl | rfl
  · exact ⟨_, rfl, Or.inl rfl⟩
  · exact ⟨_, rfl, Or.inr q1764⟩
  · exact ⟨_, rfl, Or.inr q1765⟩
theorem as_ok8 {t : Nat} (h : as_ok t 28 = true) : ∃ r, aw_cl[t]? = some r ∧ (r.1 = "StaveScore$Chord" ∨ Cond.castable r.1 "StaveScore$Chord" ∈ lw_tbl) := by
  have h1 : t ∈ [13] := List.contains_iff_mem.mp h
  simp only [List.mem_cons, List.not_mem_nil, or_false] at h1
  subst h1
  exact ⟨_, rfl, Or.inl rfl⟩
theorem as_ok9 {t : Nat} (h : as_ok t 29 = true) : ∃ r, aw_cl[t]? = some r ∧ (r.1 = "StaveScore$Grace" ∨ Cond.castable r.1 "StaveScore$Grace" ∈ lw_tbl) := by
  have h1 : t ∈ [14] := List.contains_iff_mem.mp h
  simp only [List.mem_cons, List.not_mem_nil, or_false] at h1
  subst h1
  exact ⟨_, rfl, Or.inl rfl⟩
theorem as_ok10 {t : Nat} (h : as_ok t 30 = true) : ∃ r, aw_cl[t]? = some r ∧ (r.1 = "StaveScore$Rest" ∨ Cond.castable r.1 "StaveScore$Rest" ∈ lw_tbl) := by
  have h1 : t ∈ [15, 16] := List.contains_iff_mem.mp h
  simp only [List.mem_cons, List.not_mem_nil, or_false] at h1
  rcases h1 with rfl | rfl
  · exact ⟨_, rfl, Or.inl rfl⟩
  · exact ⟨_, rfl, Or.inr q1771⟩
theorem as_ok11 {t : Nat} (h : as_ok t 31 = true) : ∃ r, aw_cl[t]? = some r ∧ (r.1 = "StaveScore$Breath" ∨ Cond.castable r.1 "StaveScore$Breath" ∈ lw_tbl) := by
  have h1 : t ∈ [16] := List.contains_iff_mem.mp h
  simp only [List.mem_cons, List.not_mem_nil, or_false] at h1
  subst h1
  exact ⟨_, rfl, Or.inl rfl⟩
theorem as_ok12 {t : Nat} (h : as_ok t 32 = true) : ∃ r, aw_cl[t]? = some r ∧ (r.1 = "StaveScore$Hears" ∨ Cond.castable r.1 "StaveScore$Hears" ∈ lw_tbl) := by
  have h1 : t ∈ [5, 6, 7, 8, 9, 10] := List.contains_iff_mem.mp h
  simp only [List.mem_cons, List.not_mem_nil, or_false] at h1
  rcases h1 with rfl | rfl | rfl | rfl | rfl | rfl
  · exact ⟨_, rfl, Or.inr q648⟩
  · exact ⟨_, rfl, Or.inr q632⟩
  · exact ⟨_, rfl, Or.inr q609⟩
  · exact ⟨_, rfl, Or.inr q622⟩
  · exact ⟨_, rfl, Or.inr q640⟩
  · exact ⟨_, rfl, Or.inr q615⟩
theorem as_ok13 {t : Nat} (h : as_ok t 33 = true) : ∃ r, aw_cl[t]? = some r ∧ (r.1 = "StaveScore$Fraction" ∨ Cond.castable r.1 "StaveScore$Fraction" ∈ lw_tbl) := by
  have h1 : t ∈ [1] := List.contains_iff_mem.mp h
  simp only [List.mem_cons, List.not_mem_nil, or_false] at h1
  subst h1
  exact ⟨_, rfl, Or.inl rfl⟩
theorem as_ok14 {t : Nat} (h : as_ok t 34 = true) : ∃ r, aw_cl[t]? = some r ∧ (r.1 = "StaveScore$Voice" ∨ Cond.castable r.1 "StaveScore$Voice" ∈ lw_tbl) := by
  have h1 : t ∈ [2] := List.contains_iff_mem.mp h
  simp only [List.mem_cons, List.not_mem_nil, or_false] at h1
  subst h1
  exact ⟨_, rfl, Or.inl rfl⟩
theorem as_ok15 {t : Nat} (h : as_ok t 35 = true) : ∃ r, aw_cl[t]? = some r ∧ (r.1 = "StaveScore$Tuplet" ∨ Cond.castable r.1 "StaveScore$Tuplet" ∈ lw_tbl) := by
  have h1 : t ∈ [17] := List.contains_iff_mem.mp h
  simp only [List.mem_cons, List.not_mem_nil, or_false] at h1
  subst h1
  exact ⟨_, rfl, Or.inl rfl⟩
theorem as_ok16 {t : Nat} (h : as_ok t 36 = true) : ∃ r, aw_cl[t]? = some r ∧ (r.1 = "StaveScore$Line" ∨ Cond.castable r.1 "StaveScore$Line" ∈ lw_tbl) := by
  have h1 : t ∈ [11] := List.contains_iff_mem.mp h
  simp only [List.mem_cons, List.not_mem_nil, or_false] at h1
  subst h1
  exact ⟨_, rfl, Or.inl rfl⟩
theorem as_ok17 {t : Nat} (h : as_ok t 37 = true) : ∃ r, aw_cl[t]? = some r ∧ (r.1 = "StaveScore$Shelf" ∨ Cond.castable r.1 "StaveScore$Shelf" ∈ lw_tbl) := by
  have h1 : t ∈ [3] := List.contains_iff_mem.mp h
  simp only [List.mem_cons, List.not_mem_nil, or_false] at h1
  subst h1
  exact ⟨_, rfl, Or.inl rfl⟩
/-- no floats -/
theorem aw_no9 (t j : Nat) : aw_kd (aw_ft t j) ≠ 9 := by
  have h : ∀ n, 18 ≤ n → aw_ft n = fun _ => .int := fun n hn => by
    match n, hn with
    | n + 18, _ => rfl
  by_cases ht : t < 18
  · rcases (show t = 0 ∨ t = 1 ∨ t = 2 ∨ t = 3 ∨ t = 4 ∨ t = 5 ∨ t = 6 ∨ t = 7 ∨ t = 8 ∨ t = 9 ∨ t = 10 ∨ t = 11 ∨ t = 12 ∨ t = 13 ∨ t = 14 ∨ t = 15 ∨ t = 16 ∨ t = 17 by omega) with rfl | rfl | rfl | rfl | rfl | rfl | rfl | rfl | rfl | rfl | rfl | rfl | rfl | rfl | rfl | rfl | rfl | rfl
    · show aw_kd (tyX0 j) ≠ 9
      unfold tyX0
      split <;> decide
    · show aw_kd (tyX1 j) ≠ 9
      unfold tyX1
      split <;> decide
    · show aw_kd (tyX2 j) ≠ 9
      unfold tyX2
      split <;> decide
    · show aw_kd (tyX3 j) ≠ 9
      unfold tyX3
      split <;> decide
    · show aw_kd (tyX4 j) ≠ 9
      unfold tyX4
      split <;> decide
    · show aw_kd (tyX5 j) ≠ 9
      unfold tyX5
      split <;> decide
    · show aw_kd (tyX6 j) ≠ 9
      unfold tyX6
      split <;> decide
    · show aw_kd (tyX7 j) ≠ 9
      unfold tyX7
      split <;> decide
    · show aw_kd (tyX8 j) ≠ 9
      unfold tyX8
      split <;> decide
    · show aw_kd (tyX9 j) ≠ 9
      unfold tyX9
      split <;> decide
    · show aw_kd (tyX10 j) ≠ 9
      unfold tyX10
      split <;> decide
    · show aw_kd (tyX18 j) ≠ 9
      unfold tyX18
      split <;> decide
    · show aw_kd (tyX12 j) ≠ 9
      unfold tyX12
      split <;> decide
    · show aw_kd (tyX13 j) ≠ 9
      unfold tyX13
      split <;> decide
    · show aw_kd (tyX14 j) ≠ 9
      unfold tyX14
      split <;> decide
    · show aw_kd (tyX15 j) ≠ 9
      unfold tyX15
      split <;> decide
    · show aw_kd (tyX16 j) ≠ 9
      unfold tyX16
      split <;> decide
    · show aw_kd (tyX17 j) ≠ 9
      unfold tyX17
      split <;> decide
  · rw [h t (by omega)]; exact fun q => by cases q
section AwAst
variable {Y : AwM} {d pc : Nat} {ls : List (Nat × AwV)} {st : List AwV} {G : AwH} {c c1 c2 : AwC}
theorem aw_ar_q {u : Nat} {ad : Nat → Nat} {G : AwH} {a : Nat} (h6 : 6 ≤ u) : aw_ar u ad G a = .inr (.inr (.inr (.inr fun k => (gR_ G a k).map ad))) := by unfold aw_ar; rw [if_neg (by omega), if_neg (by omega)]
theorem aw_ar_up {u : Nat} {ad : Nat → Nat} {G : AwH} {a : Nat} {i : Int32} {y : Option Nat} (h6 : 6 ≤ u) : aw_ar u ad (sR_ G a (ix_ i) y) a = .inr (.inr (.inr (.inr (va_up (fun k => (gR_ G a k).map ad) i.toNatClampNeg (y.map ad))))) := by
  rw [aw_ar_q h6]
  congr 4
  funext j
  rw [gR_sR]
  unfold va_up ix_
  by_cases q : j = i.toNatClampNeg
  · rw [if_pos ⟨rfl, q⟩, if_pos q]
  · rw [if_neg (fun z => q z.2), if_neg q]
theorem rw_aastN {u : Nat} {E : String} {x : Option Nat} {a : Nat} {i : Int32} (hd : decode Y.2.1 pc = .ok (.aastore, 1)) (hu : aw_al[u]? = some (.object E)) (h6 : 6 ≤ u) (hx : x = some a) (ht : tg_ a = 20 + u) (hi : ib_ i (ln_ a) = true)
    (kk : RW Y d (pc + 1) ls st (sR_ G a (ix_ i) none) c) : RW Y d pc ls (vA_ none :: vI_ i :: vA_ x :: st) G c := by
  refine rw_astW (u := u) (st := st) hu hx ht (by simp) aw_updR (fun wf _ b hb => by rw [gR_sR, if_pos ⟨rfl, rfl⟩] at hb; cases hb) (by intro w h; simp [h]) ?_ kk
  intro p l e R s m args below meth c H locs cells slots lsC Q base D dA q0 ad hx9 hb hT hh hok hS hw htt k9
  subst hx
  rw [aw_ar_up h6] at k9
  rw [aw_ar_q h6] at hw
  exact va_astqN hx9 hb hT.1 hh.2.1 hh.2.2.1 hS q0 u hw htt (ib_vp hi) hd k9
theorem rw_aastO {u : Nat} {E : String} {x y : Option Nat} {a b : Nat} {i : Int32} (hd : decode Y.2.1 pc = .ok (.aastore, 1)) (hu : aw_al[u]? = some (.object E)) (h6 : 6 ≤ u) (hk : ∀ t, as_ok t (20 + u) = true → ∃ r, aw_cl[t]? = some r ∧ (r.1 = E ∨ Cond.castable r.1 E ∈ lw_tbl)) (hx : x = some a) (ht : tg_ a = 20 + u) (hi : ib_ i (ln_ a) = true) (hy : y = some b) (hs : as_ok (tg_ b) (20 + u) = true)
    (kk : RW Y d (pc + 1) ls st (sR_ G a (ix_ i) y) c) : RW Y d pc ls (vA_ y :: vI_ i :: vA_ x :: st) G c := by
  subst hy
  obtain ⟨r, hc, hcs⟩ := hk _ hs
  have ht18 : tg_ b < 18 := (List.getElem?_eq_some_iff.mp hc).1
  refine rw_astW (u := u) (st := st) hu hx ht (by simp) aw_updR (fun wf ho b' hb => by rw [gR_sR, if_pos ⟨rfl, rfl⟩] at hb; cases hb; exact ok_top ho) (by intro w h; simp [h]) ?_ kk
  intro p l e R s m args below meth c H locs cells slots lsC Q base D dA q0 ad hx9 hb hT hh hok hS hw htt k9
  subst hx
  rw [aw_ar_up h6] at k9
  rw [aw_ar_q h6] at hw
  have hb2 : b ∈ gA_ G := aw_in_A (ok_top hok) hh.2.2.2.1 rfl (by unfold tg_ at ht18; omega)
  obtain ⟨j, -, hj⟩ := aw_ws_at (dA := dA) (ad := ad) hb2
  rw [aw_en_o ht18] at hj
  rcases hcs with rfl | hcs
  · exact va_astq hx9 hb hT.1 hh.2.1 hh.2.2.1 hS q0 u j _ hw htt hj hc (ib_vp hi) hd k9
  · exact va_astqO hx9 hb hT.1 hh.2.1 hh.2.2.1 hS q0 u j _ hw htt (hT.2.1 _ hcs rfl) hj hc (ib_vp hi) hd k9
/-- an object's or array's class, on the machine's heap -/
theorem aw_new_hp {base : Nat} {D : va_G} {dA : Nat → ClassId} {ad ad' : Nat → Nat} {s : State} {H H1 : Heap} {a w q : Nat} {e : va_E} (hda : ad' a = q) (had : ∀ b, b ≠ a → ad' b = ad b) (hq : a = na_ G (ln_ a) (tg_ a) ∧ a % 64 ≠ 60) (hh : aw_hp base D dA ad G s H) (hsz : base ≤ H1.size) (hX : H1[ad (gZ_ G)]? = H[ad (gZ_ G)]?)
    (he : aw_en dA ad' (nw_ G a w) a = e) (hP1 : va_P D aw_cl (aw_ws dA ad G ++ [(q, e)]) H1) (hD1 : va_D (fun q => base ≤ q) (aw_ws dA ad G ++ [(q, e)])) :
    aw_hp base D dA ad' (nw_ G a w) s H1 ∧ a ∉ gA_ G ∧ a ≠ gZ_ G := by
  obtain ⟨b1, hP, hD, wf, b5, b6⟩ := hh
  obtain ⟨hna, h60⟩ := hq
  have hge : 65536 * gX_ G ≤ a := by rw [hna]; unfold na_; omega
  have hlt : a < 65536 * (gX_ G + 1) := by
    rw [hna]; unfold na_ ln_ tg_
    have h1 := Nat.mod_lt (a / 64) (show 0 < 1024 by decide)
    have h2 := Nat.mod_lt a (show 0 < 64 by decide)
    omega
  have hn : a ∉ gA_ G := fun h => by have := (wf.1 a h).1; omega
  have hz : a ≠ gZ_ G := fun h => by have := wf.2.2.2; omega
  have hmap : ∀ b ∈ gA_ G, aw_en dA ad' (nw_ G a w) b = aw_en dA ad G b := by
    intro b hb
    have hba : b ≠ a := fun z => hn (z ▸ hb)
    have r1 : ∀ j, gI_ (nw_ G a w) b j = gI_ G b j := fun j => by rw [gI_nw, if_neg hba]
    have r2 : ∀ j, gL_ (nw_ G a w) b j = gL_ G b j := fun j => by rw [gL_nw, if_neg hba]
    have r3 : ∀ j, gR_ (nw_ G a w) b j = gR_ G b j := fun j => by rw [gR_nw, if_neg hba]
    rw [show aw_en dA ad' (nw_ G a w) b = aw_en dA ad' G b from aw_en_eq (fun j => ⟨r1 j, r2 j, r3 j⟩)]
    have r4 : ∀ j, (gR_ G b j).map ad' = (gR_ G b j).map ad := by
      intro j
      cases hj : gR_ G b j with
      | none => rfl
      | some z =>
        have hz2 : z ≠ a := by
          rcases wf.2.1 b j z hj with h | h
          · exact fun y => hn (y ▸ h)
          · exact fun y => hz (y ▸ h)
        rw [Option.map_some, Option.map_some, had z hz2]
    have r5 : ∀ ty j, aw_fv ty ad' G b j = aw_fv ty ad G b j := by
      intro ty j
      unfold aw_fv
      rw [r4 j]
    unfold aw_en aw_fs aw_ar
    simp only [r4, r5]
  have hws : aw_ws dA ad' (nw_ G a w) = aw_ws dA ad G ++ [(q, e)] := by
    unfold aw_ws
    rw [gA_nw, List.map_append]
    congr 1
    · apply List.map_congr_left
      intro b hb
      rw [had b (fun z => hn (z ▸ hb)), hmap b hb]
    · rw [List.map_cons, List.map_nil, he, hda]
  refine ⟨⟨hsz, by rw [hws]; exact hP1, by rw [hws]; exact hD1, ⟨?_, ?_, ?_, ?_⟩, ?_, ?_⟩, hn, hz⟩
  · intro b hb
    rw [gA_nw] at hb
    rw [gX_nw]
    rcases List.mem_append.mp hb with h | h
    · have := wf.1 b h
      exact ⟨by omega, this.2⟩
    · rw [List.mem_singleton.mp h]
      exact ⟨hlt, h60⟩
  · intro b j z hb
    rw [gR_nw] at hb
    rw [gA_nw, gZ_nw]
    by_cases hba : b = a
    · rw [if_pos hba] at hb; cases hb
    · rw [if_neg hba] at hb
      rcases wf.2.1 b j z hb with h | h
      · exact Or.inl (List.mem_append_left _ h)
      · exact Or.inr h
  · exact wf.2.2.1
  · rw [gX_nw, gZ_nw]; have := wf.2.2.2; omega
  · rw [gZ_nw]
    have e9 : gI_ (nw_ G a w) (gZ_ G) = gI_ G (gZ_ G) := funext fun j => by rw [gI_nw, if_neg (Ne.symm hz)]
    rw [e9, had _ (Ne.symm hz)]
    exact b5.kept hX
  · rw [gZ_nw, had _ (Ne.symm hz)]; exact b6
theorem aw_cv_new {ad ad' : Nat → Nat} {a : Nat} {v : AwV} (had : ∀ b, b ≠ a → ad' b = ad b) (h : aw_ok G v) (hn : a ∉ gA_ G) (hz : a ≠ gZ_ G) : aw_cv ad' v = aw_cv ad v := by
  rcases v with x | x | x
  · rfl
  · rfl
  · cases x with
    | none => rfl
    | some b =>
      have hb : b ≠ a := by
        rcases h with h | h
        · exact fun y => hn (y ▸ h)
        · exact fun y => hz (y ▸ h)
      show Value.ref _ = Value.ref _
      rw [had b hb]
theorem aw_ok_new {a w : Nat} {v : AwV} (h : aw_ok G v) : aw_ok (nw_ G a w) v := by
  rcases v with x | x | x
  · trivial
  · trivial
  · cases x with
    | none => trivial
    | some b =>
      rcases h with h | h
      · exact Or.inl (by rw [gA_nw]; exact List.mem_append_left _ h)
      · exact Or.inr h
/-- a new cell -/
theorem rw_newW {pc' a w : Nat} {st0 : List AwV} (hq : a = na_ G (ln_ a) (tg_ a) ∧ a % 64 ≠ 60) (hst : ∀ w ∈ st, w ∈ st0)
    (hW : ∀ (p : Program) (l : Launch) (e : Env) (R : Room) (s : State) (m : MethodId) (args : Array Value) (below : List Frame) (meth : Method) (c : Code) (H : Heap) (locs : List Loc) (cells slots : Nat) (lsC : Array Slot) (Q : State → Prop) (base : Nat) (D : va_G) (dA : Nat → ClassId) (ad : Nat → Nat),
      p.tables.exec = Jvm.exec → c.code = Y.2.1 → (∀ w ∈ lw_all, w.before args s = true) → s.vm.findClass Y.1.cls = some m.cls → aw_T D dA s → va_P D aw_cl (aw_ws dA ad G) H → va_D (fun q => base ≤ q) (aw_ws dA ad G) → va_S (fun q => base ≤ q) s.heap H locs → base ≤ s.heap.size → cells + 1 ≤ R.cells → slots + w ≤ R.slots →
      (∀ (q : Nat) (H1 : Heap) (E : va_E), (∀ ad', ad' a = q → aw_en dA ad' (nw_ G a w) a = E) → va_P D aw_cl (aw_ws dA ad G ++ [(q, E)]) H1 → va_D (fun q => base ≤ q) (aw_ws dA ad G ++ [(q, E)]) → va_S (fun q => base ≤ q) s.heap H1 locs → W p l e R s m args below meth c H1 locs (cells + 1) (slots + w) Q (F0 m pc' lsC (.ref q :: st.map (aw_cv ad)))) → W p l e R s m args below meth c H locs cells slots Q (F0 m pc lsC (st0.map (aw_cv ad))))
    (kk : RW Y d pc' ls (vA_ (some a) :: st) (nw_ G a w) c) : RW Y d pc ls st0 G c := by
  intro r G' e
  obtain ⟨h1, h2⟩ := kk r G' e
  refine ⟨⟨Nat.le_trans (Nat.le_succ _) h1.1, Nat.le_trans (Nat.le_add_right _ _) h1.2.1, h1.2.2.1, fun b hb => h1.2.2.2 b (by rw [gA_nw]; exact List.mem_append_left _ hb)⟩, fun p l e R s m args below meth c base D dA ad0 G0 C ad H locs cells slots lsC I => ?_⟩
  obtain ⟨i1, hh, i3, i4, i5, i6, i7, i8⟩ := I
  have hbs := C.2.2.2.2.2.2.2.2.2.2.2.2.2.2.2.2
  have hce := C.2.2.2.2.2.2.2.2.2.2.2.2.1
  have hsl := C.2.2.2.2.2.2.2.2.2.2.2.2.2.1
  have m1 := h1.1
  have m2 := h1.2.1
  rw [gC_nw] at m1
  rw [gS_nw] at m2
  refine hW p l e R s m args below meth c H locs cells slots lsC _ base D dA ad C.1 C.2.1 C.2.2.1 C.2.2.2.1 C.2.2.2.2.2.2.2.2.2.2.2.2.2.2.1 hh.2.1 hh.2.2.1 i3 hbs (by omega) (by omega) (fun q H1 E hE hP1 hD1 hS1 => ?_)
  have b6 := hh.2.2.2.2.2
  have hex : ∃ ad' : Nat → Nat, ad' a = q ∧ ∀ b, b ≠ a → ad' b = ad b := ⟨fun b => if b = a then q else ad b, if_pos rfl, fun b h => if_neg h⟩
  obtain ⟨ad', hda, had⟩ := hex
  obtain ⟨hp1, hn, hz⟩ := aw_new_hp hda had hq hh (Nat.le_trans hbs hS1.1) (by rw [hS1.2.1 _ (Nat.lt_of_lt_of_le b6 hbs) (by omega), i3.2.1 _ (Nat.lt_of_lt_of_le b6 hbs) (by omega)]) (hE ad' hda) hP1 hD1
  have h3 := h2 p l e R s m args below meth c base D dA ad0 G0 C ad' H1 locs (cells + 1) (slots + w) lsC ⟨?_, hp1, hS1, ?_, fun z hz9 => aw_ok_new (i5 z hz9), ?_, by rw [gC_nw]; omega, by rw [gS_nw]; omega⟩
  · have e1 : ((vA_ (some a) :: st).map (aw_cv ad')) = .ref q :: st.map (aw_cv ad) := by
      rw [List.map_cons]
      congr 1
      · show Value.ref _ = _
        rw [hda]
      · exact List.map_congr_left (fun v hv => aw_cv_new had (i6 v (hst v hv)) hn hz)
    rw [e1] at h3
    exact h3
  · refine ⟨fun b hb => ⟨?_, by rw [gA_nw]; exact List.mem_append_left _ (i1.1 b hb).2⟩, ?_, i1.2.2⟩
    · rw [had _ (fun y => hn (y ▸ (i1.1 b hb).2))]; exact (i1.1 b hb).1
    · rw [had _ (fun y => hz (by rw [← y, i1.2.2]))]; exact i1.2.1
  · have e2 : (ls.map fun q9 => (q9.1, aw_cv ad' q9.2)) = ls.map fun q9 => (q9.1, aw_cv ad q9.2) := List.map_congr_left (fun z hz9 => by rw [aw_cv_new had (i5 z hz9) hn hz])
    rw [e2]
    exact i4
  · exact ok_push (Or.inl (by rw [gA_nw]; exact List.mem_append_right _ (List.mem_singleton.mpr rfl))) (fun v hv => aw_ok_new (i6 v (hst v hv)))
theorem na_ln {n t : Nat} (hn : n < 1024) (ht : t < 64) : ln_ (na_ G n t) = n ∧ tg_ (na_ G n t) = t := by unfold ln_ tg_ na_; omega
theorem na_q {n t : Nat} (hn : n < 1024) (ht : t < 60) : na_ G n t = na_ G (ln_ (na_ G n t)) (tg_ (na_ G n t)) ∧ na_ G n t % 64 ≠ 60 := by
  obtain ⟨h1, h2⟩ := na_ln (G := G) hn (show t < 64 by omega)
  refine ⟨by rw [h1, h2], ?_⟩
  have : na_ G n t % 64 = t := h2
  omega
theorem rw_new {idx t : Nat} {r : vw_C} (hc : aw_cl[t]? = some r) (hd : decode Y.2.1 pc = .ok (.new idx, 3)) (hq : Cond.classLink Y.1.cls idx r.1 ∈ lw_all) (hi : Cond.instantiable r.1 r.2.2 ∈ lw_all) (hin : Cond.initialized r.1 ∈ lw_all)
    (kk : RW Y d (pc + 3) ls (vA_ (some (na_ G 0 t)) :: st) (nw_ G (na_ G 0 t) r.2.2) c) : RW Y d pc ls st G c := by
  have ht18 : t < 18 := (List.getElem?_eq_some_iff.mp hc).1
  obtain ⟨⟨hI, hty, -⟩, hnf⟩ := aw_okt _ _ hc
  have htg : na_ G 0 t % 64 = t := (na_ln (G := G) (by decide) (by omega)).2
  refine rw_newW (na_q (by decide) (by omega)) (fun _ h => h) ?_ kk
  intro p l e R s m args below meth c H locs cells slots lsC Q base D dA ad hx hb hts hown hT hP hD hS hbs h1 h2 k9
  refine va_new hx hb hts hI (aw_ft t) hty hown (hts _ hq) (hts _ hi) (hts _ hin) hT.1 hP hD hS (fun q h => Nat.le_trans hbs h) hc (fs := aw_fs t ad (nw_ G (na_ G 0 t) r.2.2) (na_ G 0 t)) (fun j hj => ?_) h1 h2 hd (fun q H1 hP1 hD1 hS1 => ?_)
  · have : (aw_fs t ad (nw_ G (na_ G 0 t) r.2.2) (na_ G 0 t))[j]? = _ := aw_fs_at (by rw [hnf]; exact hj)
    unfold vp_V
    rw [List.getD_eq_getElem?_getD, this, Option.getD_some]
    unfold aw_fv
    rw [gI_nw, gL_nw, gR_nw, if_pos rfl, if_pos rfl, if_pos rfl]
    have hfl : aw_kd (aw_ft t j) ≠ 9 := aw_no9 t j
    generalize aw_ft t j = ty at hfl
    cases ty <;> first | rfl | exact absurd rfl hfl
  · refine k9 q H1 _ (fun ad' ha' => ?_) hP1 hD1 hS1
    rw [aw_en_o (by rw [htg]; exact ht18), htg]
    congr 2
    unfold aw_fs
    apply List.map_congr_left
    intro j _
    unfold aw_fv
    rw [gR_nw, if_pos rfl]
    rfl
theorem aw_al_cell {u n : Nat} {ad : Nat → Nat} {a w : Nat} {ty : FieldType} (hu : aw_al[u]? = some ty) (cA : ClassId) : vp_cell cA (n, aw_ar u ad (nw_ G a w) a) = arrV cA n (fun _ => defaultValue ty) := by
  have r1 : gI_ (nw_ G a w) a = fun _ => 0 := funext fun j => by rw [gI_nw, if_pos rfl]
  have r2 : gL_ (nw_ G a w) a = fun _ => 0 := funext fun j => by rw [gL_nw, if_pos rfl]
  have r3 : (fun k => (gR_ (nw_ G a w) a k).map ad) = fun _ => none := funext fun j => by rw [gR_nw, if_pos rfl]; rfl
  have hl : u < 19 := (List.getElem?_eq_some_iff.mp hu).1
  unfold aw_ar
  rw [r1, r2, r3]
  match u, hl, hu with
  | 0, _, hu => cases hu; rfl
  | 1, _, hu => cases hu; rfl
  | 2, _, hu => cases hu; rfl
  | 3, _, hu => cases hu; rfl
  | 4, _, hu => cases hu; rfl
  | 5, _, hu => cases hu; rfl
  | 6, _, hu => cases hu; rfl
  | 7, _, hu => cases hu; rfl
  | 8, _, hu => cases hu; rfl
  | 9, _, hu => cases hu; rfl
  | 10, _, hu => cases hu; rfl
  | 11, _, hu => cases hu; rfl
  | 12, _, hu => cases hu; rfl
  | 13, _, hu => cases hu; rfl
  | 14, _, hu => cases hu; rfl
  | 15, _, hu => cases hu; rfl
  | 16, _, hu => cases hu; rfl
  | 17, _, hu => cases hu; rfl
  | 18, _, hu => cases hu; rfl
  | n + 19, hl, _ => omega
theorem aw_RA_u {U : State} {c1 c2 : ClassId} {ty : FieldType} (h1 : va_RA U c1 ty) (h2 : va_RA U c2 ty) : c1 = c2 := by
  cases ty <;> first
    | (obtain ⟨_, _, _, _, _, e1⟩ := h1; obtain ⟨_, _, _, _, _, e2⟩ := h2; exact Option.some.inj (e1.symm.trans e2))
    | exact Option.some.inj (h1.symm.trans h2)
theorem aw_K_last {D : va_G} {dA : Nat → ClassId} {s : State} {cA : ClassId} {u : Nat} {ty : FieldType} (hu : aw_al[u]? = some ty) (h : va_K D aw_cl (aw_tys dA) s) (h2 : va_K D aw_cl (aw_tys dA ++ [(cA, ty)]) s) : cA = dA u := by
  have e1 := (h.2 u _ (aw_tys_at dA hu)).2
  have e2 := (h2.2 (aw_tys dA).length (cA, ty) (by rw [List.getElem?_append_right (Nat.le_refl _), Nat.sub_self]; rfl)).2
  exact aw_RA_u e2 e1
theorem rw_newarray {atype : ArrayType} {u N : Nat} {n : Int32} {ty : FieldType} (hd : decode Y.2.1 pc = .ok (.newarray atype, 2)) (hu : aw_al[u]? = some ty) (hty : newarray.typeOf atype = ty) (harr : Cond.arrayClass ty ∈ lw_all) (hcb : componentBytes ty ≤ 8) (hn : ¬ n < 0) (hN : ix_ n = N) (hl : N < 1024)
    (kk : RW Y d (pc + 2) ls (vA_ (some (na_ G N (20 + u))) :: st) (nw_ G (na_ G N (20 + u)) N) c) : RW Y d pc ls (vI_ n :: st) G c := by
  have hu19 : u < 19 := (List.getElem?_eq_some_iff.mp hu).1
  obtain ⟨g1, g2⟩ := na_ln (G := G) hl (show 20 + u < 64 by omega)
  refine rw_newW (na_q hl (by omega)) (fun w h => List.mem_cons_of_mem _ h) ?_ kk
  intro p l e R s m args below meth c H locs cells slots lsC Q base D dA ad hx hb hts hown hT hP hD hS hbs h1 h2 k9
  refine va_newa (atype := atype) (ty := ty) (N' := N) (a0 := (N, aw_ar u ad (nw_ G (na_ G N (20 + u)) N) (na_ G N (20 + u)))) hx hb (by rw [hty]; exact hts _ harr) hty hT.1 hP hD hS (fun q h => Nat.le_trans hbs h) (fun cA => aw_al_cell hu cA) hn hN (by have := Nat.mul_le_mul (Nat.le_of_lt hl) hcb; omega) h1 h2 hd (fun q cA H1 hK1 hP1 hD1 hS1 => ?_)
  have hc := aw_K_last hu hT.1 hK1
  subst hc
  refine k9 q H1 _ (fun ad' ha' => ?_) hP1 hD1 hS1
  rw [aw_en_a g2, g1]
  congr 3
  unfold aw_ar
  have r3 : ∀ ad : Nat → Nat, (fun k => (gR_ (nw_ G (na_ G N (20 + u)) N) (na_ G N (20 + u)) k).map ad) = fun _ => none := fun ad => funext fun j => by rw [gR_nw, if_pos rfl]; rfl
  rw [r3 ad', r3 ad]
theorem rw_anewarray {idx u N : Nat} {n : Int32} {C : String} (hd : decode Y.2.1 pc = .ok (.anewarray idx, 3)) (hu : aw_al[u]? = some (.object C)) (hq : Cond.classLink Y.1.cls idx C ∈ lw_all) (hn : ¬ n < 0) (hN : ix_ n = N) (hl : N < 1024)
    (kk : RW Y d (pc + 3) ls (vA_ (some (na_ G N (20 + u))) :: st) (nw_ G (na_ G N (20 + u)) N) c) : RW Y d pc ls (vI_ n :: st) G c := by
  have hu19 : u < 19 := (List.getElem?_eq_some_iff.mp hu).1
  obtain ⟨g1, g2⟩ := na_ln (G := G) hl (show 20 + u < 64 by omega)
  refine rw_newW (na_q hl (by omega)) (fun w h => List.mem_cons_of_mem _ h) ?_ kk
  intro p l e R s m args below meth c H locs cells slots lsC Q base D dA ad hx hb hts hown hT hP hD hS hbs h1 h2 k9
  refine va_newq hx hb hown (hts _ hq) (hT.2.2.2.1 C (List.mem_of_getElem? hu)) hT.1 hP hD hS (fun q h => Nat.le_trans hbs h) hn hN (by omega) h1 h2 hd (fun q cA H1 hK1 hP1 hD1 hS1 => ?_)
  have hc := aw_K_last hu hT.1 hK1
  subst hc
  refine k9 q H1 _ (fun ad' ha' => ?_) hP1 hD1 hS1
  rw [aw_en_a g2, g1]
  congr 3
  have h6 : 6 ≤ u := by
    rcases Nat.lt_or_ge u 6 with q9 | q9
    · rcases (show u = 0 ∨ u = 1 ∨ u = 2 ∨ u = 3 ∨ u = 4 ∨ u = 5 by omega) with rfl | rfl | rfl | rfl | rfl | rfl <;> cases hu
    · exact q9
  rw [aw_ar_q h6]
  congr 4
  funext k
  rw [gR_nw, if_pos rfl]
  rfl
end AwAst
