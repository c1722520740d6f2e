/-! ===== casts, instanceof, comparing references, racks ===== -/
def aw_cn : Nat → String
  | 0 => "StaveScore"
  | 1 => "StaveScore$Fraction"
  | 2 => "StaveScore$Voice"
  | 3 => "StaveScore$Shelf"
  | 4 => "StaveScoreModel"
  | 5 => "StaveScore$Plain"
  | 6 => "StaveScore$Low"
  | 7 => "StaveScore$Brass"
  | 8 => "StaveScore$Horn"
  | 9 => "StaveScore$LowHorn"
  | 10 => "StaveScore$Drum"
  | 11 => "StaveScore$Line"
  | 12 => "StaveScore$Note"
  | 13 => "StaveScore$Chord"
  | 14 => "StaveScore$Grace"
  | 15 => "StaveScore$Rest"
  | 16 => "StaveScore$Breath"
  | 17 => "StaveScore$Tuplet"
  | 20 => "[I"
  | 21 => "[J"
  | 22 => "[B"
  | 23 => "[Z"
  | 24 => "[C"
  | 25 => "[S"
  | 26 => "[LStaveScore$Event;"
  | 27 => "[LStaveScore$Note;"
  | 28 => "[LStaveScore$Chord;"
  | 29 => "[LStaveScore$Grace;"
  | 30 => "[LStaveScore$Rest;"
  | 31 => "[LStaveScore$Breath;"
  | 32 => "[LStaveScore$Hears;"
  | 33 => "[LStaveScore$Fraction;"
  | 34 => "[LStaveScore$Voice;"
  | 35 => "[LStaveScore$Tuplet;"
  | 36 => "[LStaveScore$Line;"
  | 37 => "[LStaveScore$Shelf;"
  | 38 => "[[LStaveScore$Event;"
  | _ => ""
theorem aw_cn_o : ∀ (t : Nat) (r : vw_C), aw_cl[t]? = some r → aw_cn t = r.1
  | 0, _, h => by cases h; rfl
  | 1, _, h => by cases h; rfl
  | 2, _, h => by cases h; rfl
  | 3, _, h => by cases h; rfl
  | 4, _, h => by cases h; rfl
  | 5, _, h => by cases h; rfl
  | 6, _, h => by cases h; rfl
  | 7, _, h => by cases h; rfl
  | 8, _, h => by cases h; rfl
  | 9, _, h => by cases h; rfl
  | 10, _, h => by cases h; rfl
  | 11, _, h => by cases h; rfl
  | 12, _, h => by cases h; rfl
  | 13, _, h => by cases h; rfl
  | 14, _, h => by cases h; rfl
  | 15, _, h => by cases h; rfl
  | 16, _, h => by cases h; rfl
  | 17, _, h => by cases h; rfl
  | n + 18, _, h => by simp [aw_cl] at h
theorem aw_cn_a : ∀ (u : Nat) (ty : FieldType), aw_al[u]? = some ty → "[" ++ ty.toString = aw_cn (20 + u)
  | 0, _, h => by cases h; decide +kernel
  | 1, _, h => by cases h; decide +kernel
  | 2, _, h => by cases h; decide +kernel
  | 3, _, h => by cases h; decide +kernel
  | 4, _, h => by cases h; decide +kernel
  | 5, _, h => by cases h; decide +kernel
  | 6, _, h => by cases h; decide +kernel
  | 7, _, h => by cases h; decide +kernel
  | 8, _, h => by cases h; decide +kernel
  | 9, _, h => by cases h; decide +kernel
  | 10, _, h => by cases h; decide +kernel
  | 11, _, h => by cases h; decide +kernel
  | 12, _, h => by cases h; decide +kernel
  | 13, _, h => by cases h; decide +kernel
  | 14, _, h => by cases h; decide +kernel
  | 15, _, h => by cases h; decide +kernel
  | 16, _, h => by cases h; decide +kernel
  | 17, _, h => by cases h; decide +kernel
  | 18, _, h => by cases h; decide +kernel
  | n + 19, _, h => by simp [aw_al] at h
def ck_y : Nat → Nat → Bool
  | 12, t => [12, 13, 14].contains t
  | 13, t => [13].contains t
  | 22, t => [22].contains t
  | 25, t => [25].contains t
  | 24, t => [24].contains t
  | 20, t => [20].contains t
  | _, _ => false
def ck_n : Nat → Nat → Bool
  | 12, t => [15, 16].contains t
  | 13, t => [12, 14, 15, 16].contains t
  | 22, t => [20, 24, 25].contains t
  | 25, t => [20, 22, 24].contains t
  | 24, t => [20, 22, 25].contains t
  | 20, t => [22, 24, 25].contains t
  | _, _ => false
theorem ck_y12 {t : Nat} (h : ck_y 12 t = true) : (t < 18 ∨ (20 ≤ t ∧ t < 39)) ∧ (aw_cn t = "StaveScore$Note" ∨ Cond.castable (aw_cn t) "StaveScore$Note" ∈ lw_tbl) := by
  have h1 : t ∈ [12, 13, 14] := List.contains_iff_mem.mp h
  simp only [List.mem_cons, List.not_mem_nil, or_false] at h1
  rcases h1 with rfl | rfl | rfl
  · exact ⟨by decide, Or.inl rfl⟩
  · exact ⟨by decide, Or.inr q1764⟩
  · exact ⟨by decide, Or.inr q1765⟩
theorem ck_n12 {t : Nat} (h : ck_n 12 t = true) : (t < 18 ∨ (20 ≤ t ∧ t < 39)) ∧ (aw_cn t, "StaveScore$Note") ∈ aw_nc := by
  have h1 : t ∈ [15, 16] := List.contains_iff_mem.mp h
  simp only [List.mem_cons, List.not_mem_nil, or_false] at h1
  rcases h1 with rfl | rfl <;> exact ⟨by decide, by decide +kernel⟩
theorem ck_y13 {t : Nat} (h : ck_y 13 t = true) : (t < 18 ∨ (20 ≤ t ∧ t < 39)) ∧ (aw_cn t = "StaveScore$Chord" ∨ Cond.castable (aw_cn t) "StaveScore$Chord" ∈ lw_tbl) := by
  have h1 : t ∈ [13] := List.contains_iff_mem.mp h
  simp only [List.mem_cons, List.not_mem_nil, or_false] at h1
  subst h1
  exact ⟨by decide, Or.inl rfl⟩
theorem ck_n13 {t : Nat} (h : ck_n 13 t = true) : (t < 18 ∨ (20 ≤ t ∧ t < 39)) ∧ (aw_cn t, "StaveScore$Chord") ∈ aw_nc := by
  have h1 : t ∈ [12, 14, 15, 16] := List.contains_iff_mem.mp h
  simp only [List.mem_cons, List.not_mem_nil, or_false] at h1
  rcases h1 with rfl | rfl | rfl | rfl <;> exact ⟨by decide, by decide +kernel⟩
theorem ck_y22 {t : Nat} (h : ck_y 22 t = true) : (t < 18 ∨ (20 ≤ t ∧ t < 39)) ∧ (aw_cn t = "[B" ∨ Cond.castable (aw_cn t) "[B" ∈ lw_tbl) := by
  have h1 : t ∈ [22] := List.contains_iff_mem.mp h
  simp only [List.mem_cons, List.not_mem_nil, or_false] at h1
  subst h1
  exact ⟨by decide, Or.inl rfl⟩
theorem ck_n22 {t : Nat} (h : ck_n 22 t = true) : (t < 18 ∨ (20 ≤ t ∧ t < 39)) ∧ (aw_cn t, "[B") ∈ aw_nc := by
  have h1 : t ∈ [20, 24, 25] := List.contains_iff_mem.mp h
  simp only [List.mem_cons, List.not_mem_nil, or_false] at h1
  rcases h1 with rfl | rfl | rfl <;> exact ⟨by decide, by decide +kernel⟩
theorem ck_y25 {t : Nat} (h : ck_y 25 t = true) : (t < 18 ∨ (20 ≤ t ∧ t < 39)) ∧ (aw_cn t = "[S" ∨ Cond.castable (aw_cn t) "[S" ∈ lw_tbl) := by
  have h1 : t ∈ [25] := List.contains_iff_mem.mp h
  simp only [List.mem_cons, List.not_mem_nil, or_false] at h1
  subst h1
  exact ⟨by decide, Or.inl rfl⟩
theorem ck_n25 {t : Nat} (h : ck_n 25 t = true) : (t < 18 ∨ (20 ≤ t ∧ t < 39)) ∧ (aw_cn t, "[S") ∈ aw_nc := by
  have h1 : t ∈ [20, 22, 24] := List.contains_iff_mem.mp h
  simp only [List.mem_cons, List.not_mem_nil, or_false] at h1
  rcases h1 with rfl | rfl | rfl <;> exact ⟨by decide, by decide +kernel⟩
theorem ck_y24 {t : Nat} (h : ck_y 24 t = true) : (t < 18 ∨ (20 ≤ t ∧ t < 39)) ∧ (aw_cn t = "[C" ∨ Cond.castable (aw_cn t) "[C" ∈ lw_tbl) := by
  have h1 : t ∈ [24] := List.contains_iff_mem.mp h
  simp only [List.mem_cons, List.not_mem_nil, or_false] at h1
  subst h1
  exact ⟨by decide, Or.inl rfl⟩
theorem ck_n24 {t : Nat} (h : ck_n 24 t = true) : (t < 18 ∨ (20 ≤ t ∧ t < 39)) ∧ (aw_cn t, "[C") ∈ aw_nc := by
  have h1 : t ∈ [20, 22, 25] := List.contains_iff_mem.mp h
  simp only [List.mem_cons, List.not_mem_nil, or_false] at h1
  rcases h1 with rfl | rfl | rfl <;> exact ⟨by decide, by decide +kernel⟩
theorem ck_y20 {t : Nat} (h : ck_y 20 t = true) : (t < 18 ∨ (20 ≤ t ∧ t < 39)) ∧ (aw_cn t = "[I" ∨ Cond.castable (aw_cn t) "[I" ∈ lw_tbl) := by
  have h1 : t ∈ [20] := List.contains_iff_mem.mp h
  simp only [List.mem_cons, List.not_mem_nil, or_false] at h1
  subst h1
  exact ⟨by decide, Or.inl rfl⟩
theorem ck_n20 {t : Nat} (h : ck_n 20 t = true) : (t < 18 ∨ (20 ≤ t ∧ t < 39)) ∧ (aw_cn t, "[I") ∈ aw_nc := by
  have h1 : t ∈ [22, 24, 25] := List.contains_iff_mem.mp h
  simp only [List.mem_cons, List.not_mem_nil, or_false] at h1
  rcases h1 with rfl | rfl | rfl <;> exact ⟨by decide, by decide +kernel⟩
/-- the class of a cell -/
theorem aw_recv {base : Nat} {D : va_G} {dA : Nat → ClassId} {ad : Nat → Nat} {G : AwH} {s : State} {H : Heap} {b : Nat} (hT : aw_T D dA s) (hh : aw_hp base D dA ad G s H) (hb : b ∈ gA_ G) (ht : tg_ b < 18 ∨ (20 ≤ tg_ b ∧ tg_ b < 39)) : ∃ cell : Cell, H[ad b]? = some cell ∧ cell.vm.isStatics = false ∧ s.vm.findClass (aw_cn (tg_ b)) = some cell.cls := by
  obtain ⟨i, -, hi⟩ := aw_ws_at (dA := dA) (ad := ad) hb
  rcases ht with ht | ⟨h20, h39⟩
  · rw [aw_en_o ht] at hi
    obtain ⟨r, hr, -⟩ := hh.2.1 i _ hi
    obtain ⟨cell, e1, e2, e3⟩ := va_recv hT.1 hh.2.1 (q := r) hr hi
    exact ⟨cell, e1, e2, by rw [show aw_cn (tg_ b) = r.1 from aw_cn_o _ _ hr]; exact e3⟩
  · have hu : tg_ b = 20 + (tg_ b - 20) := by omega
    rw [aw_en_a hu] at hi
    have hl : tg_ b - 20 < aw_al.length := by show _ < 19; omega
    have hty : aw_al[tg_ b - 20]? = some (aw_al[tg_ b - 20]) := List.getElem?_eq_getElem hl
    have hra := (hT.1.2 _ _ (aw_tys_at dA hty)).2
    have hfc : s.vm.findClass ("[" ++ (aw_al[tg_ b - 20]).toString) = some (dA (tg_ b - 20)) := by
      generalize aw_al[tg_ b - 20] = ty at hra
      cases ty <;> first
        | (obtain ⟨_, _, _, _, _, e⟩ := hra; exact e)
        | exact hra
    rw [aw_cn_a _ _ hty, ← hu] at hfc
    refine ⟨_, hh.2.1 i _ hi, ?_, ?_⟩
    · rcases hx : aw_ar (tg_ b - 20) ad G b with f | f | f | f | f <;> rfl
    · rw [hfc]
      rcases hx : aw_ar (tg_ b - 20) ad G b with f | f | f | f | f <;> rfl
/-- what instanceof answers, and where it is known -/
def io_ (T : Nat) (r : Option Nat) : Int32 := match r with
  | none => 0
  | some b => if ck_y T (tg_ b) = true then 1 else 0
def io_g (T : Nat) (r : Option Nat) : Bool := match r with
  | none => true
  | some b => ck_y T (tg_ b) || ck_n T (tg_ b)
def cc_g (T : Nat) (r : Option Nat) : Bool := match r with
  | none => true
  | some b => ck_y T (tg_ b)
def cc_n (T : Nat) (r : Option Nat) : Bool := match r with
  | none => false
  | some b => ck_n T (tg_ b)
theorem io_n (T : Nat) : io_ T none = 0 := rfl
theorem aw_assign_rf {vm : Vm} {c : ClassId} : vm.assignable c c = true := by
  unfold Vm.assignable Vm.assignableAux
  simp
theorem aw_comp38 {D : va_G} {dA : Nat → ClassId} {s : State} {kA : Class} {comp : ClassId} (hT : aw_T D dA s) (hk : s.vm.classes[dA 18]? = some kA) (hkind : kA.kind = .array comp (.array (.object "StaveScore$Event"))) : s.vm.findClass "[LStaveScore$Event;" = some comp := by
  obtain ⟨comp', c, k, h1, h2, h3, h4, h5⟩ := arrayOverA_spec hT.2.2.2.2.2.2.1
  have hra : s.vm.findClass ("[" ++ (FieldType.array (.object "StaveScore$Event")).toString) = some (dA 18) := (hT.1.2 18 _ (aw_tys_at dA rfl)).2
  cases Option.some.inj (hra.symm.trans h5)
  cases Option.some.inj (hk.symm.trans h3)
  rw [hkind] at h4
  cases h4
  rw [show "[LStaveScore$Event;" = (FieldType.array (.object "StaveScore$Event")).toString by decide +kernel]
  exact h1
section AwMisc
variable {Y : AwM} {d pc : Nat} {ls : List (Nat × AwV)} {st : List AwV} {G : AwH} {c c1 c2 : AwC}
/-- an instruction that looks at a cell and leaves the heap -/
theorem rw_lookW {pc' : Nat} {st' st0 : List AwV} (hst : aw_wf G → (∀ v ∈ st0, aw_ok G v) → ∀ w ∈ st', aw_ok G w)
    (hW : ∀ (p : Program) (l : Launch) (e : Env) (R : Room) (s : State) (m : MethodId) (args : Array Value) (below : List Frame) (meth : Method) (c : Code) (H : Heap) (locs : List Loc) (cells slots : Nat) (lsC : Array Slot) (Q : State → Prop) (base : Nat) (D : va_G) (dA : Nat → ClassId) (ad : Nat → Nat),
      p.tables.exec = Jvm.exec → c.code = Y.2.1 → (∀ w ∈ lw_all, w.before args s = true) → s.vm.findClass Y.1.cls = some m.cls → aw_T D dA s → aw_hp base D dA ad G s H → (∀ v ∈ st0, aw_ok G v) →
      W p l e R s m args below meth c H locs cells slots Q (F0 m pc' lsC (st'.map (aw_cv ad))) → W p l e R s m args below meth c H locs cells slots Q (F0 m pc lsC (st0.map (aw_cv ad))))
    (kk : RW Y d pc' ls st' G c) : RW Y d pc ls st0 G c := by
  intro r G' e
  obtain ⟨h1, h2⟩ := kk r G' e
  refine ⟨h1, fun p l e R s m args below meth c base D dA ad0 G0 C ad H locs cells slots lsC I => ?_⟩
  obtain ⟨i1, hh, i3, i4, i5, i6, i7, i8⟩ := I
  refine hW p l e R s m args below meth c H locs cells slots lsC _ base D dA ad C.1 C.2.1 C.2.2.1 C.2.2.2.1 C.2.2.2.2.2.2.2.2.2.2.2.2.2.2.1 hh i6 ?_
  exact h2 p l e R s m args below meth c base D dA ad0 G0 C ad H locs cells slots lsC ⟨i1, hh, i3, i4, i5, hst hh.2.2.2.1 i6, i7, i8⟩
theorem rw_cast {idx T : Nat} {nm : String} {x : Option Nat} (hd : decode Y.2.1 pc = .ok (.checkcast idx, 3)) (hq : Cond.classLink Y.1.cls idx nm ∈ lw_all) (hk : ∀ t, ck_y T t = true → (t < 18 ∨ (20 ≤ t ∧ t < 39)) ∧ (aw_cn t = nm ∨ Cond.castable (aw_cn t) nm ∈ lw_tbl)) (hg : cc_g T x = true)
    (kk : RW Y d (pc + 3) ls (vA_ x :: st) G c) : RW Y d pc ls (vA_ x :: st) G c := by
  refine rw_lookW (fun _ h => h) ?_ kk
  intro p l e R s m args below meth c H locs cells slots lsC Q base D dA ad hx hb hts hown hT hh hok k9
  cases x with
  | none => exact lv_castN hx hb hd k9
  | some b =>
    obtain ⟨h1, h2⟩ := hk _ hg
    have hbm : b ∈ gA_ G := aw_in_A (ok_top hok) hh.2.2.2.1 (show b % 64 = tg_ b from rfl) (by omega)
    rcases h2 with h2 | h2
    · have hr := aw_recv hT hh hbm h1
      rw [h2] at hr
      exact va_castE hx hb hown (hts _ hq) hr hd k9
    · exact va_castY hx hb hown (hts _ hq) (hT.2.1 _ h2 rfl) (aw_recv hT hh hbm h1) hd k9
theorem rw_inst {idx T : Nat} {nm : String} {x : Option Nat} (hd : decode Y.2.1 pc = .ok (.instanceof idx, 3)) (hq : Cond.classLink Y.1.cls idx nm ∈ lw_all) (hk : ∀ t, ck_y T t = true → (t < 18 ∨ (20 ≤ t ∧ t < 39)) ∧ (aw_cn t = nm ∨ Cond.castable (aw_cn t) nm ∈ lw_tbl)) (hn : ∀ t, ck_n T t = true → (t < 18 ∨ (20 ≤ t ∧ t < 39)) ∧ (aw_cn t, nm) ∈ aw_nc) (hg : io_g T x = true)
    (kk : RW Y d (pc + 3) ls (vI_ (io_ T x) :: st) G c) : RW Y d pc ls (vA_ x :: st) G c := by
  refine rw_lookW (st' := vI_ (io_ T x) :: st) (fun _ h => ok_push trivial (ok_pop h)) ?_ kk
  intro p l e R s m args below meth c H locs cells slots lsC Q base D dA ad hx hb hts hown hT hh hok k9
  cases x with
  | none => exact lv_instN hx hb hd k9
  | some b =>
    by_cases hy : ck_y T (tg_ b) = true
    · obtain ⟨h1, h2⟩ := hk _ hy
      have hbm : b ∈ gA_ G := aw_in_A (ok_top hok) hh.2.2.2.1 (show b % 64 = tg_ b from rfl) (by omega)
      have e1 : io_ T (some b) = 1 := if_pos hy
      rw [e1] at k9
      rcases h2 with h2 | h2
      · have hr := aw_recv hT hh hbm h1
        rw [h2] at hr
        exact va_instE hx hb hown (hts _ hq) hr hd k9
      · exact va_instY hx hb hown (hts _ hq) (hT.2.1 _ h2 rfl) (aw_recv hT hh hbm h1) hd k9
    · have hg2 : ck_n T (tg_ b) = true := by
        unfold io_g at hg
        simp only [Bool.or_eq_true] at hg
        exact hg.resolve_left hy
      obtain ⟨h1, h2⟩ := hn _ hg2
      have hbm : b ∈ gA_ G := aw_in_A (ok_top hok) hh.2.2.2.1 (show b % 64 = tg_ b from rfl) (by omega)
      have e1 : io_ T (some b) = 0 := if_neg hy
      rw [e1] at k9
      exact va_instNo hx hb hown (hts _ hq) (hT.2.2.1 _ h2) (aw_recv hT hh hbm h1) hd k9
/-- addresses that are kept apart -/
theorem aw_inj {base : Nat} {D : va_G} {dA : Nat → ClassId} {ad : Nat → Nat} {G : AwH} {s : State} {H : Heap} (hh : aw_hp base D dA ad G s H) {x y : Option Nat} (hx : aw_ok G (vA_ x)) (hy : aw_ok G (vA_ y)) : x.map ad = y.map ad ↔ x = y := by
  obtain ⟨b1, hP, hD, wf, b5, b6⟩ := hh
  have key : ∀ a b, (a ∈ gA_ G ∨ a = gZ_ G) → (b ∈ gA_ G ∨ b = gZ_ G) → ad a = ad b → a = b := by
    intro a b ha hb hab
    rcases ha with ha | ha <;> rcases hb with hb | hb
    · obtain ⟨i, i1, i2⟩ := aw_ws_at (dA := dA) (ad := ad) ha
      obtain ⟨j, j1, j2⟩ := aw_ws_at (dA := dA) (ad := ad) hb
      have := hD.1 i j _ _ i2 j2 hab
      subst this
      exact Option.some.inj (i1.symm.trans j1)
    · obtain ⟨i, -, i2⟩ := aw_ws_at (dA := dA) (ad := ad) ha
      have := hD.2 i _ i2
      subst hb
      omega
    · obtain ⟨i, -, i2⟩ := aw_ws_at (dA := dA) (ad := ad) hb
      have := hD.2 i _ i2
      subst ha
      omega
    · rw [ha, hb]
  cases x with
  | none => cases y with
    | none => simp
    | some b => simp
  | some a => cases y with
    | none => simp
    | some b =>
      constructor
      · intro h
        rw [key a b hx hy (by simpa using h)]
      · intro h; rw [h]
theorem rw_acmp_eq {x y : Option Nat} {off : Int} {tgt : Nat} (hd : decode Y.2.1 pc = .ok (.if_acmp .eq off, 3)) (ht : (pc : Int) + off = (tgt : Int))
    (k1 : x = y → RW Y d tgt ls st G c1) (k2 : ¬ x = y → RW Y d (pc + 3) ls st G c2) : RW Y d pc ls (vA_ y :: vA_ x :: st) G (if x = y then c1 else c2) := by
  by_cases hp : x = y
  · rw [if_pos hp]
    refine rw_lookW (fun _ h => ok_pop (ok_pop h)) ?_ (k1 hp)
    intro p l e R s m args below meth c H locs cells slots lsC Q base D dA ad hx hb hts hown hT hh hok k9
    exact lv_acmp_eq hx hb hd ht (fun _ => k9) (fun q => absurd (by rw [hp]) q)
  · rw [if_neg hp]
    refine rw_lookW (fun _ h => ok_pop (ok_pop h)) ?_ (k2 hp)
    intro p l e R s m args below meth c H locs cells slots lsC Q base D dA ad hx hb hts hown hT hh hok k9
    exact lv_acmp_eq hx hb hd ht (fun q => absurd ((aw_inj hh (ok_top (ok_pop hok)) (ok_top hok)).mp q) hp) (fun _ => k9)
theorem rw_acmp_ne {x y : Option Nat} {off : Int} {tgt : Nat} (hd : decode Y.2.1 pc = .ok (.if_acmp .ne off, 3)) (ht : (pc : Int) + off = (tgt : Int))
    (k1 : x = y → RW Y d (pc + 3) ls st G c1) (k2 : ¬ x = y → RW Y d tgt ls st G c2) : RW Y d pc ls (vA_ y :: vA_ x :: st) G (if x = y then c1 else c2) := by
  by_cases hp : x = y
  · rw [if_pos hp]
    refine rw_lookW (fun _ h => ok_pop (ok_pop h)) ?_ (k1 hp)
    intro p l e R s m args below meth c H locs cells slots lsC Q base D dA ad hx hb hts hown hT hh hok k9
    exact lv_acmp_ne hx hb hd ht (fun q => absurd (by rw [hp]) q) (fun _ => k9)
  · rw [if_neg hp]
    refine rw_lookW (fun _ h => ok_pop (ok_pop h)) ?_ (k2 hp)
    intro p l e R s m args below meth c H locs cells slots lsC Q base D dA ad hx hb hts hown hT hh hok k9
    exact lv_acmp_ne hx hb hd ht (fun _ => k9) (fun q => absurd ((aw_inj hh (ok_top (ok_pop hok)) (ok_top hok)).mp q) hp)
/-- an array of events into the racks -/
theorem as_ok38 {t : Nat} (h : as_ok t 38 = true) : (20 ≤ t ∧ t < 39) ∧ (aw_cn t = "[LStaveScore$Event;" ∨ (aw_cn t, "[LStaveScore$Event;") ∈ aw_ca) := by
  have h1 : t ∈ [26, 27, 28, 29, 30, 31] := List.contains_iff_mem.mp h
  simp only [List.mem_cons, List.not_mem_nil, or_false] at h1
  rcases h1 with rfl | rfl | rfl | rfl | rfl | rfl
  · exact ⟨by decide, Or.inl rfl⟩
  all_goals exact ⟨by decide, Or.inr (by decide +kernel)⟩
theorem rw_aast38 {x y : Option Nat} {a b : Nat} {i : Int32} (hd : decode Y.2.1 pc = .ok (.aastore, 1)) (hx : x = some a) (ht : tg_ a = 38) (hi : ib_ i (ln_ a) = true) (hy : y = some b) (hs : as_ok (tg_ b) 38 = true)
    (kk : RW Y d (pc + 1) ls st (sR_ G a (ix_ i) y) c) : RW Y d pc ls (vA_ y :: vI_ i :: vA_ x :: st) G c := by
  subst hy
  obtain ⟨hb39, hcs⟩ := as_ok38 hs
  refine rw_astW (u := 18) (ty := .array (.object "StaveScore$Event")) (st := st) rfl hx ht (by simp) aw_updR (fun wf ho b' hb => by rw [gR_sR, if_pos ⟨rfl, rfl⟩] at hb; cases hb; exact ok_top ho) (by intro w h; simp [h]) ?_ kk
  intro p l e R s m args below meth c H locs cells slots lsC Q base D dA q0 ad hx9 hb hT hh hok hS hw htt k9
  subst hx
  rw [aw_ar_up (by omega)] at k9
  rw [aw_ar_q (by omega)] at hw
  have hb2 : b ∈ gA_ G := aw_in_A (ok_top hok) hh.2.2.2.1 rfl (by unfold tg_ at hb39; omega)
  obtain ⟨cv, v1, v2, v3⟩ := aw_recv hT hh hb2 (Or.inr hb39)
  have hin := ib_vp hi
  have hlt : i.toNatClampNeg < ln_ a := Nat.not_le.mp fun q => hin (Or.inr q)
  have h0 : ¬ i < 0 := fun q => hin (Or.inl q)
  obtain ⟨hobj, kA, hkA, comp, hkind⟩ := (hT.1.2 18 _ htt).1 (ln_ a) (fun j => va_rf ((gR_ G a j).map ad))
  have hcomp : s.vm.findClass "[LStaveScore$Event;" = some comp := aw_comp38 hT hkA hkind
  obtain ⟨kv, hkv, -⟩ := Vm.findClass_spec v3
  obtain ⟨kc, hkc, -⟩ := Vm.findClass_spec hcomp
  have hinst : s.vm.assignable cv.cls comp = true := by
    rcases hcs with h | h
    · rw [h] at v3
      cases Option.some.inj (v3.symm.trans hcomp)
      exact aw_assign_rf
    · obtain ⟨c3, c4, e3, e4, e5⟩ := Cond.castable_spec (va_Nw.use (A := #[]) rfl (hT.2.2.2.2.2.1 _ h))
      cases Option.some.inj (e3.symm.trans v3)
      cases Option.some.inj (e4.symm.trans hcomp)
      exact e5
  refine W.aast hx9 hb (hh.2.1 q0 _ hw) (fun q h => by cases h) (fun h => by cases h) hkA hkind rfl hkc ⟨h0, by show _ < (arrV _ _ _).slots.size; rw [arrV_size]; exact hlt⟩ v1 (fun q h => by rw [h] at v2; cases v2) hkv hinst rfl rfl hd fun H1 e z oq => ?_
  refine k9 H1 _ (hh.2.1.set hh.2.2.1 hw ?_ oq) (hh.2.2.1.set hw) (hS.put z oq (hh.2.2.1.2 q0 _ hw))
  show H1[ad a]? = some (vp_cell _ _)
  rw [e]
  rw [vp_cell_q, vp_cell_q, arrV_store]
  congr 2
  funext q
  by_cases hq : q = i.toNatClampNeg
  · subst hq
    simp [updV, va_up, va_rf]
  · simp [updV, va_up, hq]
end AwMisc
