/-! ===== putfield ===== -/
section AwVput
variable {p : Program} {l : Launch} {e : Env} {R : Room} {s : State} {m : MethodId} {args : Array Value} {below : List Frame} {meth : Method} {c : Code} {H : Heap} {locs : List Loc} {cells slots : Nat} {Q : State → Prop}
variable {cc : ByteArray} {pc : Nat} {lsC : Array Slot} {rest : List Value} {D : va_G} {A : Nat → Prop} {a : Nat} {tys : List (ClassId × FieldType)} {ws : va_W} {H0 : Heap}
theorem aw_vput (hexec : p.tables.exec = Jvm.exec) (hb : c.code = cc) {own : String} {idx : Nat} {r : vw_C} {ty0 : Nat → FieldType} {t : Nat} (ok : aw_okc r ty0) (hts : ∀ w ∈ lw_all, w.before args s = true) (hown : s.vm.findClass own = some m.cls) (hK : va_K D aw_cl tys s) (hP : va_P D aw_cl ws H) (hD : va_D A ws) (hS0 : va_S A H0 H locs) (q0 : Nat) {fs : List Value} (he : ws[q0]? = some (a, .inr (t, fs))) (hc : aw_cl[t]? = some r) (k : Nat) (hk : k < r.2.2) (hlink : (Cond.fieldLink own idx (r.2.1 k).1 (r.2.1 k).2.1 (r.2.1 k).2.2.1).before args s = true) (hfin : (r.2.1 k).2.2.2 = true → meth.name = "<init>" ∧ (r.2.1 k).1 = own) {v : Value} (hn : narrow (ty0 k) v = v) (hfit : fits (ty0 k) v = true) (hl : k < fs.length)
    (hdg : decode cc pc = .ok (.putfield idx, 3)) (kk : ∀ (H1 : Heap) (locs1 : List Loc), va_P D aw_cl (ws.set q0 (a, .inr (t, fs.set k v))) H1 → va_D A (ws.set q0 (a, .inr (t, fs.set k v))) → va_S A H0 H1 locs1 → W p l e R s m args below meth c H1 locs1 cells slots Q (F0 m (pc + 3) lsC rest)) : W p l e R s m args below meth c H locs cells slots Q (F0 m pc lsC (v :: .ref a :: rest)) := by
  have hap := aw_apart ok hts (hK.1 t _ hc)
  obtain ⟨hin, hty, -, -⟩ := ok
  obtain ⟨r', h1, cell, q1, q2, q3, q4⟩ := hP q0 _ he
  cases Option.some.inj (h1.symm.trans hc)
  obtain ⟨hS, hfc, kC, hkC, hkind⟩ := hK.1 t _ hc
  obtain ⟨cf, kf, fi, f, hi, hsl⟩ := hS k hk
  have hlay := hts _ (hin _ (u_in_lay hk))
  have hst := (u_facts hfc hkC (u_lays hts hin hk) hi).1
  have fin : ∀ H' : Heap, H'[a]? = some (cell.setSlot f.slot v) → H'.size = H.size → (∀ q, q ≠ a → H'[q]? = H[q]?) → W p l e R s m args below meth c H' (locs ++ [⟨a, f.slot⟩]) cells slots Q (F0 m (pc + 3) lsC rest) := by
    intro H' e1 e2 e3
    rw [hsl] at e1 ⊢
    exact kk H' _ (hP.set hD he ⟨_, hc, t_OB.to (V := updV (vp_V fs) k v) ⟨_, e1, q2, q3, t_set q4 hap hk v⟩ (fun j _ => vp_updV_set hl v j)⟩ e3) (hD.set he) (hS0.put e2 e3 (hD.2 q0 _ he))
  by_cases hF : (r.2.1 k).2.2.2 = true
  · obtain ⟨hin2, hdecl⟩ := hfin hF
    unfold u_lay at hlay
    rw [if_pos hF] at hlay
    have hcf : m.cls = cf := by
      obtain ⟨_, _, c', _, _, _, -, -, hf', -, -, -, hown2, -⟩ := Cond.laysFinal_spec hlay
      have e1 : c' = cf := by have := hi.symm.trans hf'; simp at this; exact this.1.symm
      rw [hdecl] at hown2
      rw [← e1]; exact Option.some.inj (hown.symm.trans hown2)
    have h6 := u_fits hfc hkC hkind (Or.inr hlay) hi (hty k hk) hn hfit
    exact W.putFinK hexec hb hown hlink hi hst hcf hin2 (by rw [q2]; exact h6) q1 q3 (by rw [hsl]; exact k2_hasslot (q4 k hk)) rfl rfl hdg fin
  · unfold u_lay at hlay
    rw [if_neg hF] at hlay
    have h6 := u_store hfc hkC hkind hlay hi (hty k hk) hn hfit
    exact W.putK hexec hb (f := f) ⟨hown, hlink, ⟨_, _, _, hi⟩, hst⟩ (by rw [q2]; exact h6) q1 q3 (by rw [hsl]; exact k2_hasslot (q4 k hk)) rfl rfl hdg fin
theorem aw_vputN (hexec : p.tables.exec = Jvm.exec) (hb : c.code = cc) {own host : String} {idx : Nat} {r : vw_C} {ty0 : Nat → FieldType} {t : Nat} (ok : aw_okc r ty0) (hts : ∀ w ∈ lw_all, w.before args s = true) (hown : s.vm.findClass own = some m.cls) (hK : va_K D aw_cl tys s) (hP : va_P D aw_cl ws H) (hD : va_D A ws) (hS0 : va_S A H0 H locs) (q0 : Nat) {fs : List Value} (he : ws[q0]? = some (a, .inr (t, fs))) (hc : aw_cl[t]? = some r) (k : Nat) (hk : k < r.2.2) (hlink : (Cond.fieldLinkNest own idx (r.2.1 k).1 (r.2.1 k).2.1 (r.2.1 k).2.2.1 host).before args s = true) (hfin : (r.2.1 k).2.2.2 = false) {v : Value} (hn : narrow (ty0 k) v = v) (hfit : fits (ty0 k) v = true) (hl : k < fs.length)
    (hdg : decode cc pc = .ok (.putfield idx, 3)) (kk : ∀ (H1 : Heap) (locs1 : List Loc), va_P D aw_cl (ws.set q0 (a, .inr (t, fs.set k v))) H1 → va_D A (ws.set q0 (a, .inr (t, fs.set k v))) → va_S A H0 H1 locs1 → W p l e R s m args below meth c H1 locs1 cells slots Q (F0 m (pc + 3) lsC rest)) : W p l e R s m args below meth c H locs cells slots Q (F0 m pc lsC (v :: .ref a :: rest)) := by
  have hap := aw_apart ok hts (hK.1 t _ hc)
  obtain ⟨hin, hty, -, -⟩ := ok
  obtain ⟨r', h1, cell, q1, q2, q3, q4⟩ := hP q0 _ he
  cases Option.some.inj (h1.symm.trans hc)
  obtain ⟨hS, hfc, kC, hkC, hkind⟩ := hK.1 t _ hc
  obtain ⟨cf, kf, fi, f, hi, hsl⟩ := hS k hk
  have hlay := hts _ (hin _ (u_in_lay hk))
  have hst := (u_facts hfc hkC (u_lays hts hin hk) hi).1
  unfold u_lay at hlay
  rw [if_neg (by rw [hfin]; decide)] at hlay
  have h6 := u_store hfc hkC hkind hlay hi (hty k hk) hn hfit
  refine va_WputK hexec hb (f := f) hown hlink hi hst (by rw [q2]; exact h6) q1 q3 (by rw [hsl]; exact k2_hasslot (q4 k hk)) rfl rfl hdg fun H' e1 e2 e3 => ?_
  rw [hsl] at e1 ⊢
  exact kk H' _ (hP.set hD he ⟨_, hc, t_OB.to (V := updV (vp_V fs) k v) ⟨_, e1, q2, q3, t_set q4 hap hk v⟩ (fun j _ => vp_updV_set hl v j)⟩ e3) (hD.set he) (hS0.put e2 e3 (hD.2 q0 _ he))
end AwVput
/-- the kinds ts have at k a field that this method may write -/
def aw_fin (ts : List Nat) (k : Nat) (own mname : String) : Bool := ts.all fun t => match aw_cl[t]? with
  | some r => !(r.2.1 k).2.2.2 || (decide (mname = "<init>") && decide ((r.2.1 k).1 = own))
  | none => false
def aw_var (ts : List Nat) (k : Nat) : Bool := ts.all fun t => match aw_cl[t]? with
  | some r => !(r.2.1 k).2.2.2
  | none => false
def aw_tyok (ts : List Nat) (k : Nat) (ty : FieldType) : Bool := ts.all fun t => decide (aw_ft t k = ty)
/-- G1 is G but at the place k of a -/
def aw_upd (G G1 : AwH) (a k : Nat) : Prop := (∀ b j, ¬ (b = a ∧ j = k) → gI_ G1 b j = gI_ G b j ∧ gL_ G1 b j = gL_ G b j ∧ gR_ G1 b j = gR_ G b j) ∧ gX_ G1 = gX_ G ∧ gA_ G1 = gA_ G ∧ gC_ G1 = gC_ G ∧ gS_ G1 = gS_ G ∧ gZ_ G1 = gZ_ G
theorem aw_updI {G : AwH} {a k : Nat} {x : Int32} : aw_upd G (sI_ G a k x) a k := ⟨fun b j h => ⟨by rw [gI_sI, if_neg h], rfl, rfl⟩, rfl, rfl, rfl, rfl, rfl⟩
theorem aw_updL {G : AwH} {a k : Nat} {x : Int64} : aw_upd G (sL_ G a k x) a k := ⟨fun b j h => ⟨rfl, by rw [gL_sL, if_neg h], rfl⟩, rfl, rfl, rfl, rfl, rfl⟩
theorem aw_updR {G : AwH} {a k : Nat} {x : Option Nat} : aw_upd G (sR_ G a k x) a k := ⟨fun b j h => ⟨rfl, rfl, by rw [gR_sR, if_neg h]⟩, rfl, rfl, rfl, rfl, rfl⟩
theorem aw_fv_eq {ty : FieldType} {ad : Nat → Nat} {G G1 : AwH} {b j : Nat} (h : gI_ G1 b j = gI_ G b j ∧ gL_ G1 b j = gL_ G b j ∧ gR_ G1 b j = gR_ G b j) : aw_fv ty ad G1 b j = aw_fv ty ad G b j := by
  unfold aw_fv
  rw [h.1, h.2.1, h.2.2]
theorem aw_en_eq {dA : Nat → ClassId} {ad : Nat → Nat} {G G1 : AwH} {b : Nat} (h : ∀ j, gI_ G1 b j = gI_ G b j ∧ gL_ G1 b j = gL_ G b j ∧ gR_ G1 b j = gR_ G b j) : aw_en dA ad G1 b = aw_en dA ad G b := by
  have e1 : gI_ G1 b = gI_ G b := funext fun j => (h j).1
  have e2 : gL_ G1 b = gL_ G b := funext fun j => (h j).2.1
  have e3 : gR_ G1 b = gR_ G b := funext fun j => (h j).2.2
  unfold aw_en aw_fs aw_ar
  rw [e1, e2]
  simp only [e3]
  congr 2
  simp only [aw_fv_eq (h _)]
theorem aw_wf_upd {G G1 : AwH} {a k : Nat} (h : aw_upd G G1 a k) (wf : aw_wf G) (hr : ∀ b, gR_ G1 a k = some b → b ∈ gA_ G ∨ b = gZ_ G) : aw_wf G1 := by
  obtain ⟨h1, h2, h3, -, -, h6⟩ := h
  refine ⟨by rw [h2, h3]; exact wf.1, fun b j x hx => ?_, by rw [h6]; exact wf.2.2.1, by rw [h6, h2]; exact wf.2.2.2⟩
  rw [h3, h6]
  by_cases e : b = a ∧ j = k
  · rw [e.1, e.2] at hx
    exact hr x hx
  · rw [(h1 b j e).2.2] at hx
    exact wf.2.1 b j x hx
theorem aw_fv2 {ty : FieldType} (h : aw_kd ty = 2) (ad : Nat → Nat) (G : AwH) (a j : Nat) : aw_fv ty ad G a j = va_rf ((gR_ G a j).map ad) := by
  cases ty <;> first | rfl | cases h
section AwPut
variable {Y : AwM} {d pc : Nat} {ls : List (Nat × AwV)} {st : List AwV} {G : AwH} {c c1 c2 : AwC}
theorem rw_putW {G1 : AwH} {ref nm ds : String} {k kd : Nat} {ts : List Nat} {ty : FieldType} {v : AwV} {x : Option Nat} {a : Nat} (hf : aw_fok ts ref nm ds k kd = true) (hty : aw_tyok ts k ty = true) (hx : x = some a) (ht : ts.contains (tg_ a) = true) (hu : aw_upd G G1 a k)
    (hv : ∀ ad, aw_fv ty ad G1 a k = aw_cv ad v) (hr : aw_wf G → aw_ok G v → ∀ b, gR_ G1 a k = some b → b ∈ gA_ G ∨ b = gZ_ G)
    (hW : ∀ (p : Program) (l : Launch) (e : Env) (R : Room) (s : State) (m : MethodId) (args : Array Value) (below : List Frame) (meth : Method) (c : Code) (H : Heap) (locs : List Loc) (cells slots : Nat) (lsC : Array Slot) (Q : State → Prop) (base : Nat) (D : va_G) (dA : Nat → ClassId) (a0 q0 t : Nat) (fs : List Value) (r : vw_C) (ws : va_W) (rest : List Value) (ad : Nat → Nat),
      p.tables.exec = Jvm.exec → c.code = Y.2.1 → meth.name = Y.1.name → (∀ w ∈ lw_all, w.before args s = true) → aw_T D dA s → s.vm.findClass Y.1.cls = some m.cls → ts.contains t = true → aw_okc r (aw_ft t) → va_P D aw_cl ws H → va_D (fun q => base ≤ q) ws → va_S (fun q => base ≤ q) s.heap H locs → ws[q0]? = some (a0, .inr (t, fs)) → aw_cl[t]? = some r → k < r.2.2 → (r.2.1 k).1 = ref → (r.2.1 k).2.1 = nm → (r.2.1 k).2.2.1 = ds → aw_ft t k = ty → k < fs.length →
      (∀ (H1 : Heap) (locs1 : List Loc), va_P D aw_cl (ws.set q0 (a0, .inr (t, fs.set k (aw_cv ad v)))) H1 → va_D (fun q => base ≤ q) (ws.set q0 (a0, .inr (t, fs.set k (aw_cv ad v)))) → va_S (fun q => base ≤ q) s.heap H1 locs1 → W p l e R s m args below meth c H1 locs1 cells slots Q (F0 m (pc + 3) lsC rest)) → W p l e R s m args below meth c H locs cells slots Q (F0 m pc lsC (aw_cv ad v :: .ref a0 :: rest)))
    (kk : RW Y d (pc + 3) ls st G1 c) : RW Y d pc ls (v :: vA_ x :: st) G c := by
  subst hx
  intro r G' e
  obtain ⟨h1, h2⟩ := kk r G' e
  obtain ⟨u1, u2, u3, u4, u5, u6⟩ := hu
  refine ⟨⟨by rw [← u4]; exact h1.1, by rw [← u5]; exact h1.2.1, by rw [← u6]; exact h1.2.2.1, by rw [← u3]; exact h1.2.2.2⟩, fun p l e R s m args below meth c base D dA ad0 G0 C ad H locs cells slots lsC I => ?_⟩
  obtain ⟨i1, ⟨b1, hP, hD, wf, b5, b6⟩, i3, i4, i5, i6, i7, i8⟩ := I
  obtain ⟨q, hc, hk, e1, e2, e3, e4, e5⟩ := aw_fok_at hf ht
  obtain ⟨ok, hn⟩ := aw_okt _ _ hc
  have ha : a ∈ gA_ G := aw_in_A (ok_top (ok_pop i6)) wf rfl (by unfold tg_ at e5; omega)
  have ety : aw_ft (tg_ a) k = ty := by
    have := List.all_eq_true.mp hty _ (List.contains_iff_mem.mp ht)
    exact of_decide_eq_true this
  obtain ⟨i, hi, hw⟩ := aw_ws_at (dA := dA) (ad := ad) ha
  rw [aw_en_o e5] at hw
  have hkn : k < aw_nf (tg_ a) := by rw [hn]; exact hk
  refine hW p l e R s m args below meth c H locs cells slots lsC _ base D dA (ad a) i _ _ q _ _ ad C.1 C.2.1 C.2.2.2.2.2.2.2.2.1 C.2.2.1 C.2.2.2.2.2.2.2.2.2.2.2.2.2.2.1 C.2.2.2.1 ht ok hP hD i3 hw hc hk e1 e2 e3 ety (by rw [aw_fs_len]; exact hkn) (fun H1 locs1 hP1 hD1 hS1 => ?_)
  have hset : (aw_fs (tg_ a) ad G a).set k (aw_cv ad v) = aw_fs (tg_ a) ad G1 a := aw_fs_set hkn (by rw [ety]; exact hv ad) (fun j hj => aw_fv_eq (u1 a j (fun q => hj q.2)))
  have heq : (aw_ws dA ad G).set i (ad a, .inr (tg_ a, (aw_fs (tg_ a) ad G a).set k (aw_cv ad v))) = aw_ws dA ad G1 := by
    rw [hset, show (tg_ a, aw_fs (tg_ a) ad G1 a) = (a % 64, aw_fs (a % 64) ad G1 a) from rfl, ← aw_en_o (dA := dA) e5]
    exact aw_set (D := D) hD hi u3 (fun b hb => aw_en_eq (fun j => u1 b j (fun q => hb q.1)))
  have hP1 : va_P D aw_cl (aw_ws dA ad G1) H1 := heq ▸ hP1
  have hD1 : va_D (fun q => base ≤ q) (aw_ws dA ad G1) := heq ▸ hD1
  have hzz : ∀ j, ¬ (gZ_ G = a ∧ j = k) := fun j q => by
    have h60 := wf.2.2.1
    rw [q.1] at h60
    unfold tg_ at e5
    omega
  have wf1 : aw_wf G1 := aw_wf_upd ⟨u1, u2, u3, u4, u5, u6⟩ wf (hr wf (ok_top i6))
  refine h2 p l e R s m args below meth c base D dA ad0 G0 C ad H1 locs1 cells slots lsC ⟨?_, ⟨?_, hP1, hD1, wf1, ?_, ?_⟩, hS1, i4, ?_, ?_, by rw [u4]; exact i7, by rw [u5]; exact i8⟩
  · exact ⟨fun b hb => ⟨(i1.1 b hb).1, by rw [u3]; exact (i1.1 b hb).2⟩, i1.2.1, by rw [u6]; exact i1.2.2⟩
  · exact Nat.le_trans C.2.2.2.2.2.2.2.2.2.2.2.2.2.2.2.2 hS1.1
  · rw [u6]
    have e9 : gI_ G1 (gZ_ G) = gI_ G (gZ_ G) := funext fun j => (u1 _ j (hzz j)).1
    rw [e9]
    exact b5.kept (by rw [hS1.2.1 _ (Nat.lt_of_lt_of_le b6 C.2.2.2.2.2.2.2.2.2.2.2.2.2.2.2.2) (by omega), i3.2.1 _ (Nat.lt_of_lt_of_le b6 C.2.2.2.2.2.2.2.2.2.2.2.2.2.2.2.2) (by omega)])
  · rw [u6]; exact b6
  · intro q hq
    have := i5 q hq
    unfold aw_ok at this ⊢
    rw [u3, u6]
    exact this
  · intro w hw
    have := ok_pop (ok_pop i6) w hw
    unfold aw_ok at this ⊢
    rw [u3, u6]
    exact this
theorem rw_putI {idx : Nat} {ref nm ds : String} {k a : Nat} {ts : List Nat} {x : Option Nat} {v : Int32} (hf : aw_fok ts ref nm ds k 0 = true) (hty : aw_tyok ts k .int = true) (hfn : aw_fin ts k Y.1.cls Y.1.name = true) (hq : Cond.fieldLink Y.1.cls idx ref nm ds ∈ lw_all) (hd : decode Y.2.1 pc = .ok (.putfield idx, 3)) (hx : x = some a) (ht : ts.contains (tg_ a) = true)
    (kk : RW Y d (pc + 3) ls st (sI_ G a k v) c) : RW Y d pc ls (vI_ v :: vA_ x :: st) G c := by
  refine rw_putW (v := vI_ v) hf hty hx ht aw_updI (fun ad => by show Value.int (gI_ (sI_ G a k v) a k) = _; rw [gI_sI, if_pos ⟨rfl, rfl⟩]; rfl) (fun wf _ b hb => wf.2.1 a k b hb) ?_ kk
  intro p l e R s m args below meth c H locs cells slots lsC Q base D dA a0 q0 t fs r ws rest ad hx9 hb hmn hts hT hown htc ok hP hD hS hw hc hk e1 e2 e3 ety hl w9
  have hF := List.all_eq_true.mp hfn _ (List.contains_iff_mem.mp htc)
  simp only [hc] at hF
  refine aw_vput hx9 hb ok hts hown hT.1 hP hD hS q0 hw hc k hk (by rw [e1, e2, e3]; exact hts _ hq) (fun q => ?_) (by rw [ety]; exact rfl) (by rw [ety]; exact rfl) hl hd w9
  rw [q] at hF
  simp only [Bool.not_true, Bool.false_or, Bool.and_eq_true, decide_eq_true_eq] at hF
  exact ⟨hmn.trans hF.1, hF.2⟩
theorem rw_putNI {idx : Nat} {ref nm ds host : String} {k a : Nat} {ts : List Nat} {x : Option Nat} {v : Int32} (hf : aw_fok ts ref nm ds k 0 = true) (hty : aw_tyok ts k .int = true) (hfn : aw_var ts k = true) (hq : Cond.fieldLinkNest Y.1.cls idx ref nm ds host ∈ lw_tbl) (hd : decode Y.2.1 pc = .ok (.putfield idx, 3)) (hx : x = some a) (ht : ts.contains (tg_ a) = true)
    (kk : RW Y d (pc + 3) ls st (sI_ G a k v) c) : RW Y d pc ls (vI_ v :: vA_ x :: st) G c := by
  refine rw_putW (v := vI_ v) hf hty hx ht aw_updI (fun ad => by show Value.int (gI_ (sI_ G a k v) a k) = _; rw [gI_sI, if_pos ⟨rfl, rfl⟩]; rfl) (fun wf _ b hb => wf.2.1 a k b hb) ?_ kk
  intro p l e R s m args below meth c H locs cells slots lsC Q base D dA a0 q0 t fs r ws rest ad hx9 hb hmn hts hT hown htc ok hP hD hS hw hc hk e1 e2 e3 ety hl w9
  have hF := List.all_eq_true.mp hfn _ (List.contains_iff_mem.mp htc)
  simp only [hc] at hF
  exact aw_vputN (host := host) hx9 hb ok hts hown hT.1 hP hD hS q0 hw hc k hk (by rw [e1, e2, e3]; exact va_Nw.use rfl (hT.2.1 _ hq rfl)) (by simpa using hF) (by rw [ety]; exact rfl) (by rw [ety]; exact rfl) hl hd w9
theorem rw_putZ {idx : Nat} {ref nm ds : String} {k a : Nat} {ts : List Nat} {x : Option Nat} {v : Int32} (hf : aw_fok ts ref nm ds k 0 = true) (hty : aw_tyok ts k .boolean = true) (hfn : aw_fin ts k Y.1.cls Y.1.name = true) (hq : Cond.fieldLink Y.1.cls idx ref nm ds ∈ lw_all) (hd : decode Y.2.1 pc = .ok (.putfield idx, 3)) (h01 : v = 0 ∨ v = 1) (hx : x = some a) (ht : ts.contains (tg_ a) = true)
    (kk : RW Y d (pc + 3) ls st (sI_ G a k v) c) : RW Y d pc ls (vI_ v :: vA_ x :: st) G c := by
  refine rw_putW (v := vI_ v) hf hty hx ht aw_updI (fun ad => by show Value.int (gI_ (sI_ G a k v) a k) = _; rw [gI_sI, if_pos ⟨rfl, rfl⟩]; rfl) (fun wf _ b hb => wf.2.1 a k b hb) ?_ kk
  intro p l e R s m args below meth c H locs cells slots lsC Q base D dA a0 q0 t fs r ws rest ad hx9 hb hmn hts hT hown htc ok hP hD hS hw hc hk e1 e2 e3 ety hl w9
  have hF := List.all_eq_true.mp hfn _ (List.contains_iff_mem.mp htc)
  simp only [hc] at hF
  refine aw_vput hx9 hb ok hts hown hT.1 hP hD hS q0 hw hc k hk (by rw [e1, e2, e3]; exact hts _ hq) (fun q => ?_) (by rw [ety]; exact (by rcases h01 with h | h <;> rw [h] <;> rfl)) (by rw [ety]; exact (by rcases h01 with h | h <;> rw [h] <;> rfl)) hl hd w9
  rw [q] at hF
  simp only [Bool.not_true, Bool.false_or, Bool.and_eq_true, decide_eq_true_eq] at hF
  exact ⟨hmn.trans hF.1, hF.2⟩
theorem rw_putNZ {idx : Nat} {ref nm ds host : String} {k a : Nat} {ts : List Nat} {x : Option Nat} {v : Int32} (hf : aw_fok ts ref nm ds k 0 = true) (hty : aw_tyok ts k .boolean = true) (hfn : aw_var ts k = true) (hq : Cond.fieldLinkNest Y.1.cls idx ref nm ds host ∈ lw_tbl) (hd : decode Y.2.1 pc = .ok (.putfield idx, 3)) (h01 : v = 0 ∨ v = 1) (hx : x = some a) (ht : ts.contains (tg_ a) = true)
    (kk : RW Y d (pc + 3) ls st (sI_ G a k v) c) : RW Y d pc ls (vI_ v :: vA_ x :: st) G c := by
  refine rw_putW (v := vI_ v) hf hty hx ht aw_updI (fun ad => by show Value.int (gI_ (sI_ G a k v) a k) = _; rw [gI_sI, if_pos ⟨rfl, rfl⟩]; rfl) (fun wf _ b hb => wf.2.1 a k b hb) ?_ kk
  intro p l e R s m args below meth c H locs cells slots lsC Q base D dA a0 q0 t fs r ws rest ad hx9 hb hmn hts hT hown htc ok hP hD hS hw hc hk e1 e2 e3 ety hl w9
  have hF := List.all_eq_true.mp hfn _ (List.contains_iff_mem.mp htc)
  simp only [hc] at hF
  exact aw_vputN (host := host) hx9 hb ok hts hown hT.1 hP hD hS q0 hw hc k hk (by rw [e1, e2, e3]; exact va_Nw.use rfl (hT.2.1 _ hq rfl)) (by simpa using hF) (by rw [ety]; exact (by rcases h01 with h | h <;> rw [h] <;> rfl)) (by rw [ety]; exact (by rcases h01 with h | h <;> rw [h] <;> rfl)) hl hd w9
theorem rw_putL {idx : Nat} {ref nm ds : String} {k a : Nat} {ts : List Nat} {x : Option Nat} {v : Int64} (hf : aw_fok ts ref nm ds k 1 = true) (hty : aw_tyok ts k .long = true) (hfn : aw_fin ts k Y.1.cls Y.1.name = true) (hq : Cond.fieldLink Y.1.cls idx ref nm ds ∈ lw_all) (hd : decode Y.2.1 pc = .ok (.putfield idx, 3)) (hx : x = some a) (ht : ts.contains (tg_ a) = true)
    (kk : RW Y d (pc + 3) ls st (sL_ G a k v) c) : RW Y d pc ls (vL_ v :: vA_ x :: st) G c := by
  refine rw_putW (v := vL_ v) hf hty hx ht aw_updL (fun ad => by show Value.long (gL_ (sL_ G a k v) a k) = _; rw [gL_sL, if_pos ⟨rfl, rfl⟩]; rfl) (fun wf _ b hb => wf.2.1 a k b hb) ?_ kk
  intro p l e R s m args below meth c H locs cells slots lsC Q base D dA a0 q0 t fs r ws rest ad hx9 hb hmn hts hT hown htc ok hP hD hS hw hc hk e1 e2 e3 ety hl w9
  have hF := List.all_eq_true.mp hfn _ (List.contains_iff_mem.mp htc)
  simp only [hc] at hF
  refine aw_vput hx9 hb ok hts hown hT.1 hP hD hS q0 hw hc k hk (by rw [e1, e2, e3]; exact hts _ hq) (fun q => ?_) (by rw [ety]; exact rfl) (by rw [ety]; exact rfl) hl hd w9
  rw [q] at hF
  simp only [Bool.not_true, Bool.false_or, Bool.and_eq_true, decide_eq_true_eq] at hF
  exact ⟨hmn.trans hF.1, hF.2⟩
theorem rw_putNL {idx : Nat} {ref nm ds host : String} {k a : Nat} {ts : List Nat} {x : Option Nat} {v : Int64} (hf : aw_fok ts ref nm ds k 1 = true) (hty : aw_tyok ts k .long = true) (hfn : aw_var ts k = true) (hq : Cond.fieldLinkNest Y.1.cls idx ref nm ds host ∈ lw_tbl) (hd : decode Y.2.1 pc = .ok (.putfield idx, 3)) (hx : x = some a) (ht : ts.contains (tg_ a) = true)
    (kk : RW Y d (pc + 3) ls st (sL_ G a k v) c) : RW Y d pc ls (vL_ v :: vA_ x :: st) G c := by
  refine rw_putW (v := vL_ v) hf hty hx ht aw_updL (fun ad => by show Value.long (gL_ (sL_ G a k v) a k) = _; rw [gL_sL, if_pos ⟨rfl, rfl⟩]; rfl) (fun wf _ b hb => wf.2.1 a k b hb) ?_ kk
  intro p l e R s m args below meth c H locs cells slots lsC Q base D dA a0 q0 t fs r ws rest ad hx9 hb hmn hts hT hown htc ok hP hD hS hw hc hk e1 e2 e3 ety hl w9
  have hF := List.all_eq_true.mp hfn _ (List.contains_iff_mem.mp htc)
  simp only [hc] at hF
  exact aw_vputN (host := host) hx9 hb ok hts hown hT.1 hP hD hS q0 hw hc k hk (by rw [e1, e2, e3]; exact va_Nw.use rfl (hT.2.1 _ hq rfl)) (by simpa using hF) (by rw [ety]; exact rfl) (by rw [ety]; exact rfl) hl hd w9
theorem rw_putA {idx : Nat} {ref nm ds : String} {k a : Nat} {ts : List Nat} {x : Option Nat} {v : Option Nat} {ty : FieldType} (hk2 : aw_kd ty = 2) (hf : aw_fok ts ref nm ds k 2 = true) (hty : aw_tyok ts k ty = true) (hfn : aw_fin ts k Y.1.cls Y.1.name = true) (hq : Cond.fieldLink Y.1.cls idx ref nm ds ∈ lw_all) (hd : decode Y.2.1 pc = .ok (.putfield idx, 3)) (hx : x = some a) (ht : ts.contains (tg_ a) = true)
    (kk : RW Y d (pc + 3) ls st (sR_ G a k v) c) : RW Y d pc ls (vA_ v :: vA_ x :: st) G c := by
  refine rw_putW (v := vA_ v) hf hty hx ht aw_updR (fun ad => by rw [aw_fv2 hk2, gR_sR, if_pos ⟨rfl, rfl⟩]; rfl) (fun _ h b hb => by rw [gR_sR, if_pos ⟨rfl, rfl⟩] at hb; rw [hb] at h; exact h) ?_ kk
  intro p l e R s m args below meth c H locs cells slots lsC Q base D dA a0 q0 t fs r ws rest ad hx9 hb hmn hts hT hown htc ok hP hD hS hw hc hk e1 e2 e3 ety hl w9
  have hF := List.all_eq_true.mp hfn _ (List.contains_iff_mem.mp htc)
  simp only [hc] at hF
  refine aw_vput hx9 hb ok hts hown hT.1 hP hD hS q0 hw hc k hk (by rw [e1, e2, e3]; exact hts _ hq) (fun q => ?_) (by rw [ety]; exact (by cases v <;> cases ty <;> first | rfl | cases hk2)) (by rw [ety]; exact (by cases v <;> cases ty <;> first | rfl | cases hk2)) hl hd w9
  rw [q] at hF
  simp only [Bool.not_true, Bool.false_or, Bool.and_eq_true, decide_eq_true_eq] at hF
  exact ⟨hmn.trans hF.1, hF.2⟩
theorem rw_putNA {idx : Nat} {ref nm ds host : String} {k a : Nat} {ts : List Nat} {x : Option Nat} {v : Option Nat} {ty : FieldType} (hk2 : aw_kd ty = 2) (hf : aw_fok ts ref nm ds k 2 = true) (hty : aw_tyok ts k ty = true) (hfn : aw_var ts k = true) (hq : Cond.fieldLinkNest Y.1.cls idx ref nm ds host ∈ lw_tbl) (hd : decode Y.2.1 pc = .ok (.putfield idx, 3)) (hx : x = some a) (ht : ts.contains (tg_ a) = true)
    (kk : RW Y d (pc + 3) ls st (sR_ G a k v) c) : RW Y d pc ls (vA_ v :: vA_ x :: st) G c := by
  refine rw_putW (v := vA_ v) hf hty hx ht aw_updR (fun ad => by rw [aw_fv2 hk2, gR_sR, if_pos ⟨rfl, rfl⟩]; rfl) (fun _ h b hb => by rw [gR_sR, if_pos ⟨rfl, rfl⟩] at hb; rw [hb] at h; exact h) ?_ kk
  intro p l e R s m args below meth c H locs cells slots lsC Q base D dA a0 q0 t fs r ws rest ad hx9 hb hmn hts hT hown htc ok hP hD hS hw hc hk e1 e2 e3 ety hl w9
  have hF := List.all_eq_true.mp hfn _ (List.contains_iff_mem.mp htc)
  simp only [hc] at hF
  exact aw_vputN (host := host) hx9 hb ok hts hown hT.1 hP hD hS q0 hw hc k hk (by rw [e1, e2, e3]; exact va_Nw.use rfl (hT.2.1 _ hq rfl)) (by simpa using hF) (by rw [ety]; exact (by cases v <;> cases ty <;> first | rfl | cases hk2)) (by rw [ety]; exact (by cases v <;> cases ty <;> first | rfl | cases hk2)) hl hd w9
end AwPut
