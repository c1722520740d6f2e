/-! ===== arrays, new ===== -/
theorem aw_K_at {D : va_G} {dA : Nat → ClassId} {U : State} (h : aw_T D dA U) {u : Nat} {ty : FieldType} (hu : aw_al[u]? = some ty) : (aw_tys dA)[u]? = some (dA u, ty) := aw_tys_at dA hu
theorem ib_vp {i : Int32} {n : Nat} (h : ib_ i n = true) : vp_in i n := show ¬ (i < 0 ∨ n ≤ i.toNatClampNeg) from of_decide_eq_true h
section AwArr
variable {Y : AwM} {d pc : Nat} {ls : List (Nat × AwV)} {st : List AwV} {G : AwH} {c c1 c2 : AwC}
/-- an array is read -/
theorem rw_aldW {pc' u : Nat} {ty : FieldType} {st0 : List AwV} {v : AwV} {x : Option Nat} {a : Nat} (hu : aw_al[u]? = some ty) (hx : x = some a) (ht : tg_ a = 20 + u) (hm : vA_ x ∈ st0)
    (hvo : aw_wf G → aw_ok G v) (hst : ∀ w ∈ st, w ∈ st0)
    (hW : ∀ (p : Program) (l : Launch) (e : Env) (R : Room) (s : State) (m : MethodId) (args : Array Value) (below : List Frame) (meth : Method) (c : Code) (H : Heap) (locs : List Loc) (cells slots : Nat) (lsC : Array Slot) (Q : State → Prop) (D : va_G) (dA : Nat → ClassId) (q0 : Nat) (ws : va_W) (ad : Nat → Nat),
      p.tables.exec = Jvm.exec → c.code = Y.2.1 → va_K D aw_cl (aw_tys dA) s → va_P D aw_cl ws H → ws[q0]? = some (ad a, .inl (dA u, ln_ a, aw_ar u ad G a)) → (aw_tys dA)[u]? = some (dA u, ty) →
      W p l e R s m args below meth c H locs cells slots Q (F0 m pc' lsC (aw_cv ad v :: st.map (aw_cv ad))) → W p l e R s m args below meth c H locs cells slots Q (F0 m pc lsC (st0.map (aw_cv ad))))
    (kk : RW Y d pc' ls (v :: st) G c) : RW Y d pc ls st0 G c := by
  intro r G' e
  obtain ⟨h1, h2⟩ := kk r G' e
  refine ⟨h1, fun p l e R s m args below meth c base D dA ad0 G0 C ad H locs cells slots lsC I => ?_⟩
  have I' := I
  obtain ⟨i1, ⟨b1, hP, hD, wf, b5⟩, i3, i4, i5, i6, i7, i8⟩ := I
  have hu19 : u < 19 := (List.getElem?_eq_some_iff.mp hu).1
  have ha : a ∈ gA_ G := aw_in_A (by have := i6 _ hm; rw [hx] at this; exact this) wf (show a % 64 = 20 + u from ht) (by omega)
  obtain ⟨i, -, hw⟩ := aw_ws_at (dA := dA) (ad := ad) ha
  rw [aw_en_a ht] at hw
  refine hW p l e R s m args below meth c H locs cells slots lsC _ D dA i _ ad C.1 C.2.1 C.2.2.2.2.2.2.2.2.2.2.2.2.2.2.1.1 hP hw (aw_tys_at dA hu) ?_
  exact h2 p l e R s m args below meth c base D dA ad0 G0 C ad H locs cells slots lsC ⟨i1, ⟨b1, hP, hD, wf, b5⟩, i3, i4, i5, ok_push (hvo wf) (fun w hw => i6 w (hst w hw)), i7, i8⟩
theorem rw_iaload {x : Option Nat} {a : Nat} {i : Int32} (hd : decode Y.2.1 pc = .ok (.iaload, 1)) (hx : x = some a) (ht : tg_ a = 20) (hi : ib_ i (ln_ a) = true)
    (kk : RW Y d (pc + 1) ls (vI_ (gI_ G a (ix_ i)) :: st) G c) : RW Y d pc ls (vI_ i :: vA_ x :: st) G c := by
  refine rw_aldW (v := vI_ (gI_ G a (ix_ i))) (u := 0) (ty := .int) (st := st) rfl hx ht (by simp) (fun _ => trivial) (by intro w h; simp [h]) ?_ kk
  intro p l e R s m args below meth c H locs cells slots lsC Q D dA q0 ws ad hx9 hb hK hP hw htt k9
  subst hx
  exact va_iald hx9 hb hK hP q0 0 hw htt (ib_vp hi) hd k9
theorem rw_laload {x : Option Nat} {a : Nat} {i : Int32} (hd : decode Y.2.1 pc = .ok (.laload, 1)) (hx : x = some a) (ht : tg_ a = 21) (hi : ib_ i (ln_ a) = true)
    (kk : RW Y d (pc + 1) ls (vL_ (gL_ G a (ix_ i)) :: st) G c) : RW Y d pc ls (vI_ i :: vA_ x :: st) G c := by
  refine rw_aldW (v := vL_ (gL_ G a (ix_ i))) (u := 1) (ty := .long) (st := st) rfl hx ht (by simp) (fun _ => trivial) (by intro w h; simp [h]) ?_ kk
  intro p l e R s m args below meth c H locs cells slots lsC Q D dA q0 ws ad hx9 hb hK hP hw htt k9
  subst hx
  exact va_lald hx9 hb hK hP q0 1 hw htt (ib_vp hi) hd k9
theorem rw_baload {x : Option Nat} {a : Nat} {i : Int32} (hd : decode Y.2.1 pc = .ok (.baload, 1)) (hx : x = some a) (ht : tg_ a = 22) (hi : ib_ i (ln_ a) = true)
    (kk : RW Y d (pc + 1) ls (vI_ (gI_ G a (ix_ i)) :: st) G c) : RW Y d pc ls (vI_ i :: vA_ x :: st) G c := by
  refine rw_aldW (v := vI_ (gI_ G a (ix_ i))) (u := 2) (ty := .byte) (st := st) rfl hx ht (by simp) (fun _ => trivial) (by intro w h; simp [h]) ?_ kk
  intro p l e R s m args below meth c H locs cells slots lsC Q D dA q0 ws ad hx9 hb hK hP hw htt k9
  subst hx
  exact va_bald hx9 hb hK hP q0 2 hw htt (ib_vp hi) hd k9
theorem rw_zaload {x : Option Nat} {a : Nat} {i : Int32} (hd : decode Y.2.1 pc = .ok (.baload, 1)) (hx : x = some a) (ht : tg_ a = 23) (hi : ib_ i (ln_ a) = true)
    (kk : RW Y d (pc + 1) ls (vI_ (gI_ G a (ix_ i)) :: st) G c) : RW Y d pc ls (vI_ i :: vA_ x :: st) G c := by
  refine rw_aldW (v := vI_ (gI_ G a (ix_ i))) (u := 3) (ty := .boolean) (st := st) rfl hx ht (by simp) (fun _ => trivial) (by intro w h; simp [h]) ?_ kk
  intro p l e R s m args below meth c H locs cells slots lsC Q D dA q0 ws ad hx9 hb hK hP hw htt k9
  subst hx
  exact va_zald hx9 hb hK hP q0 3 hw htt (ib_vp hi) hd k9
theorem rw_caload {x : Option Nat} {a : Nat} {i : Int32} (hd : decode Y.2.1 pc = .ok (.caload, 1)) (hx : x = some a) (ht : tg_ a = 24) (hi : ib_ i (ln_ a) = true)
    (kk : RW Y d (pc + 1) ls (vI_ (gI_ G a (ix_ i)) :: st) G c) : RW Y d pc ls (vI_ i :: vA_ x :: st) G c := by
  refine rw_aldW (v := vI_ (gI_ G a (ix_ i))) (u := 4) (ty := .char) (st := st) rfl hx ht (by simp) (fun _ => trivial) (by intro w h; simp [h]) ?_ kk
  intro p l e R s m args below meth c H locs cells slots lsC Q D dA q0 ws ad hx9 hb hK hP hw htt k9
  subst hx
  exact va_cald hx9 hb hK hP q0 4 hw htt (ib_vp hi) hd k9
theorem rw_saload {x : Option Nat} {a : Nat} {i : Int32} (hd : decode Y.2.1 pc = .ok (.saload, 1)) (hx : x = some a) (ht : tg_ a = 25) (hi : ib_ i (ln_ a) = true)
    (kk : RW Y d (pc + 1) ls (vI_ (gI_ G a (ix_ i)) :: st) G c) : RW Y d pc ls (vI_ i :: vA_ x :: st) G c := by
  refine rw_aldW (v := vI_ (gI_ G a (ix_ i))) (u := 5) (ty := .short) (st := st) rfl hx ht (by simp) (fun _ => trivial) (by intro w h; simp [h]) ?_ kk
  intro p l e R s m args below meth c H locs cells slots lsC Q D dA q0 ws ad hx9 hb hK hP hw htt k9
  subst hx
  exact va_sald hx9 hb hK hP q0 5 hw htt (ib_vp hi) hd k9
theorem rw_aaload {u : Nat} {ty : FieldType} {x : Option Nat} {a : Nat} {i : Int32} (hd : decode Y.2.1 pc = .ok (.aaload, 1)) (hu : aw_al[u]? = some ty) (hk : aw_kd ty = 2) (h6 : 6 ≤ u) (hx : x = some a) (ht : tg_ a = 20 + u) (hi : ib_ i (ln_ a) = true)
    (kk : RW Y d (pc + 1) ls (vA_ (gR_ G a (ix_ i)) :: st) G c) : RW Y d pc ls (vI_ i :: vA_ x :: st) G c := by
  refine rw_aldW (v := vA_ (gR_ G a (ix_ i))) (st := st) hu hx ht (by simp) (fun wf => aw_okR wf) (by intro w h; simp [h]) ?_ kk
  intro p l e R s m args below meth c H locs cells slots lsC Q D dA q0 ws ad hx9 hb hK hP hw htt k9
  subst hx
  have hin := ib_vp hi
  have hlt : i.toNatClampNeg < ln_ a := Nat.not_le.mp fun q => hin (Or.inr q)
  rw [show aw_ar u ad G a = .inr (.inr (.inr (.inr fun k => (gR_ G a k).map ad))) by unfold aw_ar; rw [if_neg (by omega), if_neg (by omega)]] at hw
  exact W.aald (v := va_rf ((gR_ G a (ix_ i)).map ad)) (ty := ty) hx9 hb (hP q0 _ hw) ((hK.2 _ _ htt).1 (ln_ a) (fun j => va_rf ((gR_ G a j).map ad))) (by cases ty <;> first | rfl | cases hk) (fun q => by cases q) (by show ¬ (i < 0 ∨ (arrV _ _ _).slots.size ≤ _); rw [arrV_size]; exact hin) (by show (arrV _ _ _).slots[_]? = _; rw [arrV_read _ _ hlt]; rfl) rfl rfl hd k9
theorem rw_alen {u : Nat} {ty : FieldType} {x : Option Nat} {a : Nat} (hd : decode Y.2.1 pc = .ok (.arraylength, 1)) (hu : aw_al[u]? = some ty) (hx : x = some a) (ht : tg_ a = 20 + u)
    (kk : RW Y d (pc + 1) ls (vI_ (nI (ln_ a)) :: st) G c) : RW Y d pc ls (vA_ x :: st) G c := by
  refine rw_aldW (v := vI_ (nI (ln_ a))) (st := st) hu hx ht (by simp) (fun _ => trivial) (by intro w h; simp [h]) ?_ kk
  intro p l e R s m args below meth c H locs cells slots lsC Q D dA q0 ws ad hx9 hb hK hP hw htt k9
  subst hx
  exact va_alen (v := nI (ln_ a)) hx9 hb hK hP q0 u hw htt rfl hd k9
/-- the script -/
theorem rw_sload {x : Option Nat} {a : Nat} {i : Int32} (hd : decode Y.2.1 pc = .ok (.iaload, 1)) (hx : x = some a) (ht : tg_ a = 60) (hi : ib_ i (ln_ a) = true)
    (kk : RW Y d (pc + 1) ls (vI_ (gI_ G a (ix_ i)) :: st) G c) : RW Y d pc ls (vI_ i :: vA_ x :: st) G c := by
  subst hx
  intro r G' e
  obtain ⟨h1, h2⟩ := kk r G' e
  refine ⟨h1, fun p l e R s m args below meth c base D dA ad0 G0 C ad H locs cells slots lsC I => ?_⟩
  have I' := I
  obtain ⟨i1, ⟨b1, hP, hD, wf, b5, b6⟩, i3, i4, i5, i6, i7, i8⟩ := I
  have ha : a = gZ_ G := (ok_top (ok_pop i6)).resolve_left (fun q => (wf.1 a q).2 ht)
  have hbs := C.2.2.2.2.2.2.2.2.2.2.2.2.2.2.2.2
  have hX : va_X (ad (gZ_ G)) (ln_ (gZ_ G)) (gI_ G (gZ_ G)) s s.heap := b5.kept (i3.2.1 _ (Nat.lt_of_lt_of_le b6 hbs) (by omega)).symm
  subst ha
  refine va_sld C.1 C.2.1 hX (Nat.lt_of_lt_of_le b6 hbs) (A := fun q => base ≤ q) (by omega) i3 (ib_vp hi) hd ?_
  exact h2 p l e R s m args below meth c base D dA ad0 G0 C ad H locs cells slots lsC ⟨i1, ⟨b1, hP, hD, wf, b5, b6⟩, i3, i4, i5, ok_push trivial (ok_pop (ok_pop i6)), i7, i8⟩
theorem rw_slen {x : Option Nat} {a : Nat} (hd : decode Y.2.1 pc = .ok (.arraylength, 1)) (hx : x = some a) (ht : tg_ a = 60)
    (kk : RW Y d (pc + 1) ls (vI_ (nI (ln_ a)) :: st) G c) : RW Y d pc ls (vA_ x :: st) G c := by
  subst hx
  intro r G' e
  obtain ⟨h1, h2⟩ := kk r G' e
  refine ⟨h1, fun p l e R s m args below meth c base D dA ad0 G0 C ad H locs cells slots lsC I => ?_⟩
  have I' := I
  obtain ⟨i1, ⟨b1, hP, hD, wf, b5, b6⟩, i3, i4, i5, i6, i7, i8⟩ := I
  have ha : a = gZ_ G := (ok_top i6).resolve_left (fun q => (wf.1 a q).2 ht)
  have hbs := C.2.2.2.2.2.2.2.2.2.2.2.2.2.2.2.2
  have hX : va_X (ad (gZ_ G)) (ln_ (gZ_ G)) (gI_ G (gZ_ G)) s s.heap := b5.kept (i3.2.1 _ (Nat.lt_of_lt_of_le b6 hbs) (by omega)).symm
  subst ha
  refine va_slen C.1 C.2.1 hX (Nat.lt_of_lt_of_le b6 hbs) (A := fun q => base ≤ q) (by omega) i3 hd ?_
  exact h2 p l e R s m args below meth c base D dA ad0 G0 C ad H locs cells slots lsC ⟨i1, ⟨b1, hP, hD, wf, b5, b6⟩, i3, i4, i5, ok_push trivial (ok_pop i6), i7, i8⟩
/-- an array's element is written -/
theorem rw_astW {G1 : AwH} {k u : Nat} {ty : FieldType} {st0 : List AwV} {x : Option Nat} {a : Nat} (hu : aw_al[u]? = some ty) (hx : x = some a) (ht : tg_ a = 20 + u) (hm : vA_ x ∈ st0) (hup : aw_upd G G1 a k)
    (hr : aw_wf G → (∀ v ∈ st0, aw_ok G v) → ∀ b, gR_ G1 a k = some b → b ∈ gA_ G ∨ b = gZ_ G) (hst : ∀ w ∈ st, w ∈ st0)
    (hW : ∀ (p : Program) (l : Launch) (e : Env) (R : Room) (s : State) (m : MethodId) (args : Array Value) (below : List Frame) (meth : Method) (c : Code) (H : Heap) (locs : List Loc) (cells slots : Nat) (lsC : Array Slot) (Q : State → Prop) (base : Nat) (D : va_G) (dA : Nat → ClassId) (q0 : Nat) (ad : Nat → Nat),
      p.tables.exec = Jvm.exec → c.code = Y.2.1 → aw_T D dA s → aw_hp base D dA ad G s H → (∀ v ∈ st0, aw_ok G v) → va_S (fun q => base ≤ q) s.heap H locs → (aw_ws dA ad G)[q0]? = some (ad a, .inl (dA u, ln_ a, aw_ar u ad G a)) → (aw_tys dA)[u]? = some (dA u, ty) →
      (∀ (H1 : Heap) (locs1 : List Loc), va_P D aw_cl ((aw_ws dA ad G).set q0 (ad a, .inl (dA u, ln_ a, aw_ar u ad G1 a))) H1 → va_D (fun q => base ≤ q) ((aw_ws dA ad G).set q0 (ad a, .inl (dA u, ln_ a, aw_ar u ad G1 a))) → va_S (fun q => base ≤ q) s.heap H1 locs1 → W p l e R s m args below meth c H1 locs1 cells slots Q (F0 m (pc + 1) lsC (st.map (aw_cv ad)))) → W p l e R s m args below meth c H locs cells slots Q (F0 m pc lsC (st0.map (aw_cv ad))))
    (kk : RW Y d (pc + 1) ls st G1 c) : RW Y d pc ls st0 G c := by
  intro r G' e
  obtain ⟨h1, h2⟩ := kk r G' e
  obtain ⟨u1, u2, u3, u4, u5, u6⟩ := hup
  refine ⟨⟨by rw [← u4]; exact h1.1, by rw [← u5]; exact h1.2.1, by rw [← u6]; exact h1.2.2.1, by rw [← u3]; exact h1.2.2.2⟩, fun p l e R s m args below meth c base D dA ad0 G0 C ad H locs cells slots lsC I => ?_⟩
  have hu19 : u < 19 := (List.getElem?_eq_some_iff.mp hu).1
  obtain ⟨i1, hh, i3, i4, i5, i6, i7, i8⟩ := I
  have hh' := hh
  obtain ⟨b1, hP, hD, wf, b5, b6⟩ := hh
  have ha : a ∈ gA_ G := aw_in_A (by have := i6 _ hm; rw [hx] at this; exact this) wf (show a % 64 = 20 + u from ht) (by omega)
  obtain ⟨i, hi, hw⟩ := aw_ws_at (dA := dA) (ad := ad) ha
  rw [aw_en_a ht] at hw
  have hbs := C.2.2.2.2.2.2.2.2.2.2.2.2.2.2.2.2
  refine hW p l e R s m args below meth c H locs cells slots lsC _ base D dA i ad C.1 C.2.1 C.2.2.2.2.2.2.2.2.2.2.2.2.2.2.1 hh' i6 i3 hw (aw_tys_at dA hu) (fun H1 locs1 hP1 hD1 hS1 => ?_)
  have heq : (aw_ws dA ad G).set i (ad a, .inl (dA u, ln_ a, aw_ar u ad G1 a)) = aw_ws dA ad G1 := by
    rw [← aw_en_a (G := G1) ht]
    exact aw_set (D := D) hD hi u3 (fun b hb => aw_en_eq (fun j => u1 b j (fun q => hb q.1)))
  have hP1 : va_P D aw_cl (aw_ws dA ad G1) H1 := heq ▸ hP1
  have hD1 : va_D (fun q => base ≤ q) (aw_ws dA ad G1) := heq ▸ hD1
  have hzz : ∀ j, ¬ (gZ_ G = a ∧ j = k) := fun j q => by
    have h60 := wf.2.2.1
    rw [q.1] at h60
    unfold tg_ at ht
    omega
  have wf1 : aw_wf G1 := aw_wf_upd ⟨u1, u2, u3, u4, u5, u6⟩ wf (hr wf i6)
  refine h2 p l e R s m args below meth c base D dA ad0 G0 C ad H1 locs1 cells slots lsC ⟨?_, ⟨?_, hP1, hD1, wf1, ?_, ?_⟩, hS1, i4, ?_, ?_, by rw [u4]; exact i7, by rw [u5]; exact i8⟩
  · exact ⟨fun b hb => ⟨(i1.1 b hb).1, by rw [u3]; exact (i1.1 b hb).2⟩, i1.2.1, by rw [u6]; exact i1.2.2⟩
  · exact Nat.le_trans hbs hS1.1
  · rw [u6]
    have e9 : gI_ G1 (gZ_ G) = gI_ G (gZ_ G) := funext fun j => (u1 _ j (hzz j)).1
    rw [e9]
    exact b5.kept (by rw [hS1.2.1 _ (Nat.lt_of_lt_of_le b6 hbs) (by omega), i3.2.1 _ (Nat.lt_of_lt_of_le b6 hbs) (by omega)])
  · rw [u6]; exact b6
  · intro q hq
    have := i5 q hq
    unfold aw_ok at this ⊢
    rw [u3, u6]
    exact this
  · intro w hw
    have := i6 w (hst w hw)
    unfold aw_ok at this ⊢
    rw [u3, u6]
    exact this
def nb_ (x : Int32) : Int32 := vp_nar .byte x
def nz_ (x : Int32) : Int32 := vp_nar .boolean x
def nc_ (x : Int32) : Int32 := vp_nar .char x
def ns_ (x : Int32) : Int32 := vp_nar .short x
theorem rw_iastore {x : Option Nat} {a : Nat} {i : Int32} {v : Int32} (hd : decode Y.2.1 pc = .ok (.iastore, 1)) (hx : x = some a) (ht : tg_ a = 20) (hi : ib_ i (ln_ a) = true)
    (kk : RW Y d (pc + 1) ls st (sI_ G a (ix_ i) (v)) c) : RW Y d pc ls (vI_ v :: vI_ i :: vA_ x :: st) G c := by
  refine rw_astW (u := 0) (ty := .int) (st := st) rfl hx ht (by simp) aw_updI (fun wf _ b hb => wf.2.1 a (ix_ i) b hb) (by intro w h; simp [h]) ?_ kk
  intro p l e R s m args below meth c H locs cells slots lsC Q base D dA q0 ad hx9 hb hT hh hok hS hw htt k9
  subst hx
  have e9 : aw_ar 0 ad (sI_ G a (ix_ i) (v)) a = .inl (upd (gI_ G a) i.toNatClampNeg (v)) := by
    show (Sum.inl (gI_ (sI_ G a (ix_ i) (v)) a) : (Nat → Int32) ⊕ (Nat → Int64) ⊕ (Nat → UInt32) ⊕ (Nat → UInt64) ⊕ (Nat → Option Nat)) = _
    congr 1
    funext j
    rw [gI_sI]
    unfold upd ix_
    by_cases q : j = i.toNatClampNeg
    · rw [if_pos ⟨rfl, q⟩, if_pos q]
    · rw [if_neg (fun z => q z.2), if_neg q]
  rw [e9] at k9
  exact va_iast hx9 hb hT.1 hh.2.1 hh.2.2.1 hS q0 0 hw htt (ib_vp hi) hd k9
theorem rw_lastore {x : Option Nat} {a : Nat} {i : Int32} {v : Int64} (hd : decode Y.2.1 pc = .ok (.lastore, 1)) (hx : x = some a) (ht : tg_ a = 21) (hi : ib_ i (ln_ a) = true)
    (kk : RW Y d (pc + 1) ls st (sL_ G a (ix_ i) (v)) c) : RW Y d pc ls (vL_ v :: vI_ i :: vA_ x :: st) G c := by
  refine rw_astW (u := 1) (ty := .long) (st := st) rfl hx ht (by simp) aw_updL (fun wf _ b hb => wf.2.1 a (ix_ i) b hb) (by intro w h; simp [h]) ?_ kk
  intro p l e R s m args below meth c H locs cells slots lsC Q base D dA q0 ad hx9 hb hT hh hok hS hw htt k9
  subst hx
  have e9 : aw_ar 1 ad (sL_ G a (ix_ i) (v)) a = (.inr <| .inl (vp_updL (gL_ G a) i.toNatClampNeg (v))) := by
    show (Sum.inr <| Sum.inl (gL_ (sL_ G a (ix_ i) (v)) a) : (Nat → Int32) ⊕ (Nat → Int64) ⊕ (Nat → UInt32) ⊕ (Nat → UInt64) ⊕ (Nat → Option Nat)) = _
    congr 1
    congr 1
    funext j
    rw [gL_sL]
    unfold vp_updL ix_
    by_cases q : j = i.toNatClampNeg
    · rw [if_pos ⟨rfl, q⟩, if_pos q]
    · rw [if_neg (fun z => q z.2), if_neg q]
  rw [e9] at k9
  exact va_last hx9 hb hT.1 hh.2.1 hh.2.2.1 hS q0 1 hw htt (ib_vp hi) hd k9
theorem rw_bastore {x : Option Nat} {a : Nat} {i : Int32} {v : Int32} (hd : decode Y.2.1 pc = .ok (.bastore, 1)) (hx : x = some a) (ht : tg_ a = 22) (hi : ib_ i (ln_ a) = true)
    (kk : RW Y d (pc + 1) ls st (sI_ G a (ix_ i) (nb_ v)) c) : RW Y d pc ls (vI_ v :: vI_ i :: vA_ x :: st) G c := by
  refine rw_astW (u := 2) (ty := .byte) (st := st) rfl hx ht (by simp) aw_updI (fun wf _ b hb => wf.2.1 a (ix_ i) b hb) (by intro w h; simp [h]) ?_ kk
  intro p l e R s m args below meth c H locs cells slots lsC Q base D dA q0 ad hx9 hb hT hh hok hS hw htt k9
  subst hx
  have e9 : aw_ar 2 ad (sI_ G a (ix_ i) (nb_ v)) a = .inl (upd (gI_ G a) i.toNatClampNeg (nb_ v)) := by
    show (Sum.inl (gI_ (sI_ G a (ix_ i) (nb_ v)) a) : (Nat → Int32) ⊕ (Nat → Int64) ⊕ (Nat → UInt32) ⊕ (Nat → UInt64) ⊕ (Nat → Option Nat)) = _
    congr 1
    funext j
    rw [gI_sI]
    unfold upd ix_
    by_cases q : j = i.toNatClampNeg
    · rw [if_pos ⟨rfl, q⟩, if_pos q]
    · rw [if_neg (fun z => q z.2), if_neg q]
  rw [e9] at k9
  exact va_bast hx9 hb hT.1 hh.2.1 hh.2.2.1 hS q0 2 hw htt (ib_vp hi) hd k9
theorem rw_zastore {x : Option Nat} {a : Nat} {i : Int32} {v : Int32} (hd : decode Y.2.1 pc = .ok (.bastore, 1)) (hx : x = some a) (ht : tg_ a = 23) (hi : ib_ i (ln_ a) = true)
    (kk : RW Y d (pc + 1) ls st (sI_ G a (ix_ i) (nz_ v)) c) : RW Y d pc ls (vI_ v :: vI_ i :: vA_ x :: st) G c := by
  refine rw_astW (u := 3) (ty := .boolean) (st := st) rfl hx ht (by simp) aw_updI (fun wf _ b hb => wf.2.1 a (ix_ i) b hb) (by intro w h; simp [h]) ?_ kk
  intro p l e R s m args below meth c H locs cells slots lsC Q base D dA q0 ad hx9 hb hT hh hok hS hw htt k9
  subst hx
  have e9 : aw_ar 3 ad (sI_ G a (ix_ i) (nz_ v)) a = .inl (upd (gI_ G a) i.toNatClampNeg (nz_ v)) := by
    show (Sum.inl (gI_ (sI_ G a (ix_ i) (nz_ v)) a) : (Nat → Int32) ⊕ (Nat → Int64) ⊕ (Nat → UInt32) ⊕ (Nat → UInt64) ⊕ (Nat → Option Nat)) = _
    congr 1
    funext j
    rw [gI_sI]
    unfold upd ix_
    by_cases q : j = i.toNatClampNeg
    · rw [if_pos ⟨rfl, q⟩, if_pos q]
    · rw [if_neg (fun z => q z.2), if_neg q]
  rw [e9] at k9
  exact va_zast hx9 hb hT.1 hh.2.1 hh.2.2.1 hS q0 3 hw htt (ib_vp hi) hd k9
theorem rw_castore {x : Option Nat} {a : Nat} {i : Int32} {v : Int32} (hd : decode Y.2.1 pc = .ok (.castore, 1)) (hx : x = some a) (ht : tg_ a = 24) (hi : ib_ i (ln_ a) = true)
    (kk : RW Y d (pc + 1) ls st (sI_ G a (ix_ i) (nc_ v)) c) : RW Y d pc ls (vI_ v :: vI_ i :: vA_ x :: st) G c := by
  refine rw_astW (u := 4) (ty := .char) (st := st) rfl hx ht (by simp) aw_updI (fun wf _ b hb => wf.2.1 a (ix_ i) b hb) (by intro w h; simp [h]) ?_ kk
  intro p l e R s m args below meth c H locs cells slots lsC Q base D dA q0 ad hx9 hb hT hh hok hS hw htt k9
  subst hx
  have e9 : aw_ar 4 ad (sI_ G a (ix_ i) (nc_ v)) a = .inl (upd (gI_ G a) i.toNatClampNeg (nc_ v)) := by
    show (Sum.inl (gI_ (sI_ G a (ix_ i) (nc_ v)) a) : (Nat → Int32) ⊕ (Nat → Int64) ⊕ (Nat → UInt32) ⊕ (Nat → UInt64) ⊕ (Nat → Option Nat)) = _
    congr 1
    funext j
    rw [gI_sI]
    unfold upd ix_
    by_cases q : j = i.toNatClampNeg
    · rw [if_pos ⟨rfl, q⟩, if_pos q]
    · rw [if_neg (fun z => q z.2), if_neg q]
  rw [e9] at k9
  exact va_cast hx9 hb hT.1 hh.2.1 hh.2.2.1 hS q0 4 hw htt (ib_vp hi) hd k9
theorem rw_sastore {x : Option Nat} {a : Nat} {i : Int32} {v : Int32} (hd : decode Y.2.1 pc = .ok (.sastore, 1)) (hx : x = some a) (ht : tg_ a = 25) (hi : ib_ i (ln_ a) = true)
    (kk : RW Y d (pc + 1) ls st (sI_ G a (ix_ i) (ns_ v)) c) : RW Y d pc ls (vI_ v :: vI_ i :: vA_ x :: st) G c := by
  refine rw_astW (u := 5) (ty := .short) (st := st) rfl hx ht (by simp) aw_updI (fun wf _ b hb => wf.2.1 a (ix_ i) b hb) (by intro w h; simp [h]) ?_ kk
  intro p l e R s m args below meth c H locs cells slots lsC Q base D dA q0 ad hx9 hb hT hh hok hS hw htt k9
  subst hx
  have e9 : aw_ar 5 ad (sI_ G a (ix_ i) (ns_ v)) a = .inl (upd (gI_ G a) i.toNatClampNeg (ns_ v)) := by
    show (Sum.inl (gI_ (sI_ G a (ix_ i) (ns_ v)) a) : (Nat → Int32) ⊕ (Nat → Int64) ⊕ (Nat → UInt32) ⊕ (Nat → UInt64) ⊕ (Nat → Option Nat)) = _
    congr 1
    funext j
    rw [gI_sI]
    unfold upd ix_
    by_cases q : j = i.toNatClampNeg
    · rw [if_pos ⟨rfl, q⟩, if_pos q]
    · rw [if_neg (fun z => q z.2), if_neg q]
  rw [e9] at k9
  exact va_sast hx9 hb hT.1 hh.2.1 hh.2.2.1 hS q0 5 hw htt (ib_vp hi) hd k9
end AwArr
