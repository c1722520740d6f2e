/-! ===== fields and arrays ===== -/
def aw_kd : FieldType → Nat
  | .long => 1
  | .object _ => 2
  | .array _ => 2
  | .float => 9
  | .double => 9
  | _ => 0
/-- the kinds ts have ref's field nm at place k, its values of kind kd -/
def aw_fok (ts : List Nat) (ref nm ds : String) (k kd : Nat) : Bool := ts.all fun t => match aw_cl[t]? with
  | some r => decide (k < r.2.2) && decide (r.2.1 k = (ref, nm, ds, (r.2.1 k).2.2.2)) && decide (aw_kd (aw_ft t k) = kd)
  | none => false
theorem aw_fok_at {ts : List Nat} {ref nm ds : String} {k kd t : Nat} (h : aw_fok ts ref nm ds k kd = true) (ht : ts.contains t = true) :
    ∃ r, aw_cl[t]? = some r ∧ k < r.2.2 ∧ (r.2.1 k).1 = ref ∧ (r.2.1 k).2.1 = nm ∧ (r.2.1 k).2.2.1 = ds ∧ aw_kd (aw_ft t k) = kd ∧ t < 18 := by
  have h1 := List.all_eq_true.mp h t (List.contains_iff_mem.mp ht)
  cases hr : aw_cl[t]? with
  | none => rw [hr] at h1; cases h1
  | some r =>
    rw [hr] at h1
    simp only [Bool.and_eq_true, decide_eq_true_eq] at h1
    obtain ⟨⟨a, b⟩, e⟩ := h1
    exact ⟨r, rfl, a, by rw [b], by rw [b], by rw [b], e, (List.getElem?_eq_some_iff.mp hr).1⟩
theorem aw_fs_at {t : Nat} {ad : Nat → Nat} {G : AwH} {a k : Nat} (hk : k < aw_nf t) : (aw_fs t ad G a)[k]? = some (aw_fv (aw_ft t k) ad G a k) := by
  rw [aw_fs, List.getElem?_map, List.getElem?_range hk, Option.map_some]
theorem aw_fs_len {t : Nat} {ad : Nat → Nat} {G : AwH} {a : Nat} : (aw_fs t ad G a).length = aw_nf t := by simp [aw_fs]
theorem aw_fs_set {t : Nat} {ad : Nat → Nat} {G G' : AwH} {a k : Nat} {v : Value} (hk : k < aw_nf t) (hv : aw_fv (aw_ft t k) ad G' a k = v) (ho : ∀ j, j ≠ k → aw_fv (aw_ft t j) ad G' a j = aw_fv (aw_ft t j) ad G a j) : (aw_fs t ad G a).set k v = aw_fs t ad G' a := by
  apply List.ext_getElem?
  intro j
  rw [List.getElem?_set]
  by_cases e : k = j
  · subst e
    rw [if_pos rfl, if_pos (by rw [aw_fs_len]; exact hk), aw_fs_at hk, hv]
  · rw [if_neg e]
    by_cases hj : j < aw_nf t
    · rw [aw_fs_at hj, aw_fs_at hj, ho j (Ne.symm e)]
    · rw [List.getElem?_eq_none (by rw [aw_fs_len]; omega), List.getElem?_eq_none (by rw [aw_fs_len]; omega)]
theorem aw_en_o {dA : Nat → ClassId} {ad : Nat → Nat} {G : AwH} {a : Nat} (h : a % 64 < 18) : aw_en dA ad G a = .inr (a % 64, aw_fs (a % 64) ad G a) := by
  unfold aw_en; rw [if_pos (by omega)]
theorem aw_en_a {dA : Nat → ClassId} {ad : Nat → Nat} {G : AwH} {a u : Nat} (h : a % 64 = 20 + u) : aw_en dA ad G a = .inl (dA u, ln_ a, aw_ar u ad G a) := by
  unfold aw_en; rw [if_neg (by omega), h, Nat.add_sub_cancel_left]; rfl
/-- one cell is written -/
theorem aw_set {D : va_G} {dA : Nat → ClassId} {ad : Nat → Nat} {G G' : AwH} {A : Nat → Prop} {a i : Nat} (hD : va_D A (aw_ws dA ad G)) (hi : (gA_ G)[i]? = some a) (hA' : gA_ G' = gA_ G) (h1 : ∀ b, b ≠ a → aw_en dA ad G' b = aw_en dA ad G b) :
    (aw_ws dA ad G).set i (ad a, aw_en dA ad G' a) = aw_ws dA ad G' := by
  apply List.ext_getElem?
  intro j
  rw [List.getElem?_set]
  have hl : i < (aw_ws dA ad G).length := by rw [aw_ws, List.length_map]; exact (List.getElem?_eq_some_iff.mp hi).1
  have hwi : (aw_ws dA ad G)[i]? = some (ad a, aw_en dA ad G a) := by rw [aw_ws, List.getElem?_map, hi, Option.map_some]
  by_cases e : i = j
  · subst e
    rw [if_pos rfl, if_pos hl, aw_ws, List.getElem?_map, hA', hi, Option.map_some]
  · rw [if_neg e, aw_ws, aw_ws, List.getElem?_map, List.getElem?_map, hA']
    cases hj : (gA_ G)[j]? with
    | none => rfl
    | some b =>
      have hwj : (aw_ws dA ad G)[j]? = some (ad b, aw_en dA ad G b) := by rw [aw_ws, List.getElem?_map, hj, Option.map_some]
      have hb : b ≠ a := fun q => e (hD.1 i j _ _ hwi hwj (by rw [q]))
      rw [Option.map_some, Option.map_some, h1 b hb]
theorem aw_apart {D : va_G} {s : State} {args : Array Value} {r : vw_C} {ty : Nat → FieldType} {t : Nat} (ok : aw_okc r ty) (hts : ∀ w ∈ lw_all, w.before args s = true) (hK : u_Kn s r.1 r.2.1 r.2.2 (D.1 t) (D.2 t)) : ∀ x y, x < r.2.2 → y < r.2.2 → x ≠ y → (D.2 t) x ≠ (D.2 t) y := by
  intro x y hx hy hne
  obtain ⟨hin, hty, hnm, -⟩ := ok
  obtain ⟨hS, hfc, -⟩ := hK
  obtain ⟨ca, ka, ia, fa, hia, ea⟩ := hS x hx
  obtain ⟨cb, kb, ib, fb, hib, eb⟩ := hS y hy
  rw [← ea, ← eb]
  rcases hnm x hx y hy hne with h | ⟨h, f1, f2⟩
  · refine u_apart (u_lays hts hin hx) (u_lays hts hin hy) hia hib ?_
    rw [(State.fieldFound?_type hia (hty x hx)).1, (State.fieldFound?_type hib (hty y hy)).1]
    exact h
  · have l1 := hts _ (hin _ (u_in_lay hx))
    have l2 := hts _ (hin _ (u_in_lay hy))
    unfold u_lay at l1 l2
    rw [if_pos f1] at l1
    rw [if_pos f2] at l2
    obtain ⟨c1, k1, d1, e1, i1, g1, p1, -, p2, -, -, -, p3, -, x1, p4, p5, -⟩ := Cond.laysFinal_spec l1
    obtain ⟨c2, k2, d2, e2, i2, g2, q1, -, q2, -, -, -, q3, -, x2, q4, q5, -⟩ := Cond.laysFinal_spec l2
    cases hia.symm.trans p2
    cases hib.symm.trans q2
    cases Option.some.inj (p1.symm.trans q1)
    intro hs
    rw [hs] at p4
    cases Option.some.inj (p4.symm.trans q4)
    apply h
    obtain ⟨y1, m1, n1⟩ := Vm.findClass_spec p3
    obtain ⟨y2, m2, n2⟩ := Vm.findClass_spec q3
    have o1 := (State.fieldFound?_spec hia).1
    have o2 := (State.fieldFound?_spec hib).1
    cases Option.some.inj (m1.symm.trans o1)
    cases Option.some.inj (m2.symm.trans o2)
    rw [← n1, ← n2, ← p5, ← q5]
section AwHeap
variable {Y : AwM} {d pc : Nat} {ls : List (Nat × AwV)} {st : List AwV} {G : AwH} {c c1 c2 : AwC}
theorem aw_in_A {a : Nat} {t : Nat} (h : aw_ok G (vA_ (some a))) (hw : aw_wf G) (ht : a % 64 = t) (h60 : t ≠ 60) : a ∈ gA_ G := by
  rcases h with h | h
  · exact h
  · exact absurd (by rw [← ht, h]; exact hw.2.2.1) h60
/-- getfield, the place found in the tables by hlink -/
theorem rw_getW {ref nm ds : String} {k kd : Nat} {ts : List Nat} {v : AwV} {x : Option Nat} {a : Nat} (hf : aw_fok ts ref nm ds k kd = true) (hx : x = some a) (ht : ts.contains (tg_ a) = true)
    (hv : ∀ ad t, aw_kd (aw_ft t k) = kd → aw_fv (aw_ft t k) ad G a k = aw_cv ad v) (hvo : aw_wf G → aw_ok G v)
    (hW : ∀ (p : Program) (l : Launch) (e : Env) (R : Room) (s : State) (m : MethodId) (args : Array Value) (below : List Frame) (meth : Method) (c : Code) (H : Heap) (locs : List Loc) (cells slots : Nat) (lsC : Array Slot) (Q : State → Prop) (D : va_G) (dA : Nat → ClassId) (a0 q0 ci : Nat) (fs : List Value) (r : vw_C) (ws : va_W) (rest : List Value) (v9 : Value),
      p.tables.exec = Jvm.exec → c.code = Y.2.1 → (∀ w ∈ lw_all, w.before args s = true) → aw_T D dA s → s.vm.findClass Y.1.cls = some m.cls → (∀ w ∈ u_ws r.1 r.2.1 r.2.2, w ∈ lw_all) → va_P D aw_cl ws H → ws[q0]? = some (a0, .inr (ci, fs)) → aw_cl[ci]? = some (r.1, r.2.1, r.2.2) → k < r.2.2 → (r.2.1 k).1 = ref → (r.2.1 k).2.1 = nm → (r.2.1 k).2.2.1 = ds → fs[k]? = some v9 →
      W p l e R s m args below meth c H locs cells slots Q (F0 m (pc + 3) lsC (v9 :: rest)) → W p l e R s m args below meth c H locs cells slots Q (F0 m pc lsC (.ref a0 :: rest)))
    (kk : RW Y d (pc + 3) ls (v :: st) G c) : RW Y d pc ls (vA_ x :: st) G c := by
  subst hx
  intro r G' e
  obtain ⟨h1, h2⟩ := kk r G' e
  refine ⟨h1, fun p l e R s m args below meth c base D dA ad0 G0 C ad H locs cells slots lsC I => ?_⟩
  have I' := I
  obtain ⟨i1, ⟨b1, hP, hD, wf, b5⟩, i3, i4, i5, i6, i7, i8⟩ := I
  obtain ⟨q, hc, hk, e1, e2, e3, e4, e5⟩ := aw_fok_at hf ht
  obtain ⟨⟨hin, -⟩, hn⟩ := aw_okt _ _ hc
  have ha : a ∈ gA_ G := aw_in_A (ok_top i6) wf rfl (by unfold tg_ at e5; omega)
  obtain ⟨i, -, hw⟩ := aw_ws_at (dA := dA) (ad := ad) ha
  rw [aw_en_o e5] at hw
  refine hW p l e R s m args below meth c H locs cells slots lsC _ D dA (ad a) i _ _ q _ _ (aw_cv ad v) C.1 C.2.1 C.2.2.1 C.2.2.2.2.2.2.2.2.2.2.2.2.2.2.1 C.2.2.2.1 hin hP hw hc hk e1 e2 e3 ?_ ?_
  · rw [aw_fs_at (by rw [show a % 64 = tg_ a from rfl, hn]; exact hk)]
    exact congrArg some (hv ad _ e4)
  · exact h2 p l e R s m args below meth c base D dA ad0 G0 C ad H locs cells slots lsC ⟨i1, ⟨b1, hP, hD, wf, b5⟩, i3, i4, i5, ok_push (hvo wf) (ok_pop i6), i7, i8⟩
theorem aw_fvI {t k : Nat} (h : aw_kd (aw_ft t k) = 0) (ad : Nat → Nat) (G : AwH) (a j : Nat) : aw_fv (aw_ft t k) ad G a j = .int (gI_ G a j) := by
  cases e : aw_ft t k <;> first | rfl | (rw [e] at h; cases h)
theorem aw_fvL {t k : Nat} (h : aw_kd (aw_ft t k) = 1) (ad : Nat → Nat) (G : AwH) (a j : Nat) : aw_fv (aw_ft t k) ad G a j = .long (gL_ G a j) := by
  cases e : aw_ft t k <;> first | rfl | (rw [e] at h; cases h)
theorem aw_fvA {t k : Nat} (h : aw_kd (aw_ft t k) = 2) (ad : Nat → Nat) (G : AwH) (a j : Nat) : aw_fv (aw_ft t k) ad G a j = va_rf ((gR_ G a j).map ad) := by
  cases e : aw_ft t k <;> first | rfl | (rw [e] at h; cases h)
theorem aw_okR {a k : Nat} (wf : aw_wf G) : aw_ok G (vA_ (gR_ G a k)) := by
  cases h : gR_ G a k with
  | none => trivial
  | some b => exact wf.2.1 a k b h
theorem rw_getI {idx : Nat} {ref nm ds : String} {k a : Nat} {ts : List Nat} {x : Option Nat} (hf : aw_fok ts ref nm ds k 0 = true) (hq : Cond.fieldLink Y.1.cls idx ref nm ds ∈ lw_all) (hd : decode Y.2.1 pc = .ok (.getfield idx, 3)) (hx : x = some a) (ht : ts.contains (tg_ a) = true)
    (kk : RW Y d (pc + 3) ls (vI_ (gI_ G a k) :: st) G c) : RW Y d pc ls (vA_ x :: st) G c := by
  refine rw_getW (v := vI_ (gI_ G a k)) hf hx ht (fun ad t h => aw_fvI h ad G a k) (fun _ => trivial) ?_ kk
  intro p l e R s m args below meth c H locs cells slots lsC Q D dA a0 q0 ci fs r ws rest v9 hx hb hts hT hown hin hP hw hc hk e1 e2 e3 hv w
  exact va_get hx hb hts hin hown hT.1 hP q0 hw hc k hk (by rw [e2, e3]; exact hts _ hq) (by rw [e1, e2, e3]; exact fun _ h => h) hv hd w
theorem rw_getL {idx : Nat} {ref nm ds : String} {k a : Nat} {ts : List Nat} {x : Option Nat} (hf : aw_fok ts ref nm ds k 1 = true) (hq : Cond.fieldLink Y.1.cls idx ref nm ds ∈ lw_all) (hd : decode Y.2.1 pc = .ok (.getfield idx, 3)) (hx : x = some a) (ht : ts.contains (tg_ a) = true)
    (kk : RW Y d (pc + 3) ls (vL_ (gL_ G a k) :: st) G c) : RW Y d pc ls (vA_ x :: st) G c := by
  refine rw_getW (v := vL_ (gL_ G a k)) hf hx ht (fun ad t h => aw_fvL h ad G a k) (fun _ => trivial) ?_ kk
  intro p l e R s m args below meth c H locs cells slots lsC Q D dA a0 q0 ci fs r ws rest v9 hx hb hts hT hown hin hP hw hc hk e1 e2 e3 hv w
  exact va_get hx hb hts hin hown hT.1 hP q0 hw hc k hk (by rw [e2, e3]; exact hts _ hq) (by rw [e1, e2, e3]; exact fun _ h => h) hv hd w
theorem rw_getA {idx : Nat} {ref nm ds : String} {k a : Nat} {ts : List Nat} {x : Option Nat} (hf : aw_fok ts ref nm ds k 2 = true) (hq : Cond.fieldLink Y.1.cls idx ref nm ds ∈ lw_all) (hd : decode Y.2.1 pc = .ok (.getfield idx, 3)) (hx : x = some a) (ht : ts.contains (tg_ a) = true)
    (kk : RW Y d (pc + 3) ls (vA_ (gR_ G a k) :: st) G c) : RW Y d pc ls (vA_ x :: st) G c := by
  refine rw_getW (v := vA_ (gR_ G a k)) hf hx ht (fun ad t h => aw_fvA h ad G a k) (fun wf => aw_okR wf) ?_ kk
  intro p l e R s m args below meth c H locs cells slots lsC Q D dA a0 q0 ci fs r ws rest v9 hx hb hts hT hown hin hP hw hc hk e1 e2 e3 hv w
  exact va_get hx hb hts hin hown hT.1 hP q0 hw hc k hk (by rw [e2, e3]; exact hts _ hq) (by rw [e1, e2, e3]; exact fun _ h => h) hv hd w
theorem rw_getNI {idx : Nat} {ref nm ds host : String} {k a : Nat} {ts : List Nat} {x : Option Nat} (hf : aw_fok ts ref nm ds k 0 = true) (hq : Cond.fieldLinkNest Y.1.cls idx ref nm ds host ∈ lw_tbl) (hd : decode Y.2.1 pc = .ok (.getfield idx, 3)) (hx : x = some a) (ht : ts.contains (tg_ a) = true)
    (kk : RW Y d (pc + 3) ls (vI_ (gI_ G a k) :: st) G c) : RW Y d pc ls (vA_ x :: st) G c := by
  refine rw_getW (v := vI_ (gI_ G a k)) hf hx ht (fun ad t h => aw_fvI h ad G a k) (fun _ => trivial) ?_ kk
  intro p l e R s m args below meth c H locs cells slots lsC Q D dA a0 q0 ci fs r ws rest v9 hx hb hts hT hown hin hP hw hc hk e1 e2 e3 hv w
  exact va_getN (host := host) hx hb hts hin hown hT.1 hP q0 hw hc k hk (by rw [e2, e3]; exact va_Nw.use rfl (hT.2.1 _ hq rfl)) (by rw [e1, e2, e3]; exact fun _ h => h) hv hd w
theorem rw_getNL {idx : Nat} {ref nm ds host : String} {k a : Nat} {ts : List Nat} {x : Option Nat} (hf : aw_fok ts ref nm ds k 1 = true) (hq : Cond.fieldLinkNest Y.1.cls idx ref nm ds host ∈ lw_tbl) (hd : decode Y.2.1 pc = .ok (.getfield idx, 3)) (hx : x = some a) (ht : ts.contains (tg_ a) = true)
    (kk : RW Y d (pc + 3) ls (vL_ (gL_ G a k) :: st) G c) : RW Y d pc ls (vA_ x :: st) G c := by
  refine rw_getW (v := vL_ (gL_ G a k)) hf hx ht (fun ad t h => aw_fvL h ad G a k) (fun _ => trivial) ?_ kk
  intro p l e R s m args below meth c H locs cells slots lsC Q D dA a0 q0 ci fs r ws rest v9 hx hb hts hT hown hin hP hw hc hk e1 e2 e3 hv w
  exact va_getN (host := host) hx hb hts hin hown hT.1 hP q0 hw hc k hk (by rw [e2, e3]; exact va_Nw.use rfl (hT.2.1 _ hq rfl)) (by rw [e1, e2, e3]; exact fun _ h => h) hv hd w
theorem rw_getNA {idx : Nat} {ref nm ds host : String} {k a : Nat} {ts : List Nat} {x : Option Nat} (hf : aw_fok ts ref nm ds k 2 = true) (hq : Cond.fieldLinkNest Y.1.cls idx ref nm ds host ∈ lw_tbl) (hd : decode Y.2.1 pc = .ok (.getfield idx, 3)) (hx : x = some a) (ht : ts.contains (tg_ a) = true)
    (kk : RW Y d (pc + 3) ls (vA_ (gR_ G a k) :: st) G c) : RW Y d pc ls (vA_ x :: st) G c := by
  refine rw_getW (v := vA_ (gR_ G a k)) hf hx ht (fun ad t h => aw_fvA h ad G a k) (fun wf => aw_okR wf) ?_ kk
  intro p l e R s m args below meth c H locs cells slots lsC Q D dA a0 q0 ci fs r ws rest v9 hx hb hts hT hown hin hP hw hc hk e1 e2 e3 hv w
  exact va_getN (host := host) hx hb hts hin hown hT.1 hP q0 hw hc k hk (by rw [e2, e3]; exact va_Nw.use rfl (hT.2.1 _ hq rfl)) (by rw [e1, e2, e3]; exact fun _ h => h) hv hd w
end AwHeap
