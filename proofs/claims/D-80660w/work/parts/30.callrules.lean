/-! ===== the kinds of calls; exceptions that leave, exceptions caught ===== -/
def aw_cb (Y' : AwM) (n : Nat) : Prop := Cond.code Y'.1 Y'.2.1 Y'.2.2.1 Y'.2.2.2.1 ∈ lw_all ∧ Cond.initialized Y'.1.cls ∈ lw_all ∧ (Y'.1.cls ≠ "java/lang/invoke/MethodHandle" ∧ Y'.1.cls ≠ "java/lang/invoke/VarHandle" ∧ (parseMethodDescriptor Y'.1.desc).map (fun d => d.parameters.length) = some n) ∧ Y'.2.2.1 ≤ 21 ∧ Y'.2.2.2.2 = []
def aw_cbH (Y' : AwM) (n : Nat) : Prop := Cond.codeWith Y'.1 Y'.2.1 Y'.2.2.1 Y'.2.2.2.1 Y'.2.2.2.2 ∈ lw_all ∧ Cond.initialized Y'.1.cls ∈ lw_all ∧ (Y'.1.cls ≠ "java/lang/invoke/MethodHandle" ∧ Y'.1.cls ≠ "java/lang/invoke/VarHandle" ∧ (parseMethodDescriptor Y'.1.desc).map (fun d => d.parameters.length) = some n) ∧ Y'.2.2.1 ≤ 21 ∧ Y'.2.2.2.2 ≠ []
theorem aw_wd0 {Y : AwM} (h : Y.2.2.2.2 = []) : aw_wd Y = ws_ Y.1 Y.2.1 Y.2.2.1 Y.2.2.2.1 := by unfold aw_wd; rw [h]
theorem aw_wdH {Y : AwM} (h : Y.2.2.2.2 ≠ []) : aw_wd Y = wsW_ Y.1 Y.2.1 Y.2.2.1 Y.2.2.2.1 Y.2.2.2.2 := by
  unfold aw_wd
  cases q : Y.2.2.2.2 with
  | nil => exact absurd q h
  | cons a b => rfl
theorem aw_rm_f (d mc ms : Nat) : (aw_rm d mc ms).frames = d + 8 := rfl
theorem aw_rm_l (d mc ms : Nat) : (aw_rm d mc ms).locals = 40 * d + 10300 := rfl
abbrev kbI_ (k : Int32 → AwH → AwC) : AwC → AwC := fun c => bI_ c k
abbrev kbL_ (k : Int64 → AwH → AwC) : AwC → AwC := fun c => bL_ c k
abbrev kbA_ (k : Option Nat → AwH → AwC) : AwC → AwC := fun c => bA_ c k
abbrev kbV_ (k : AwH → AwC) : AwC → AwC := fun c => bV_ c k
abbrev kbXI_ (h : Nat → AwH → AwC) (k : Int32 → AwH → AwC) : AwC → AwC := fun c => bX_ c h fun z => bI_ z k
abbrev kbXA_ (h : Nat → AwH → AwC) (k : Option Nat → AwH → AwC) : AwC → AwC := fun c => bX_ c h fun z => bA_ z k
abbrev kbXV_ (h : Nat → AwH → AwC) (k : AwH → AwC) : AwC → AwC := fun c => bX_ c h fun z => bV_ z k
section AwKinds
variable {Y : AwM} {d pc : Nat} {ls : List (Nat × AwV)} {st : List AwV} {G : AwH} {c c1 c2 : AwC}
/-- a callee's answer of one kind -/
theorem kI_ {pc' : Nat} {c' : AwC} {k : Int32 → AwH → AwC} (h : ∀ x G1, RW Y d pc' ls (vI_ x :: st) G1 (k x G1)) : ∀ v G1, c' = some (.inl v, G1) → RW Y d pc' ls (v.toList ++ st) G1 (bI_ (some (.inl v, G1)) k) := by
  intro v G1 _
  rcases v with _ | x | x | x
  · exact rw_none
  · exact h x G1
  · exact rw_none
  · exact rw_none
theorem kL_ {pc' : Nat} {c' : AwC} {k : Int64 → AwH → AwC} (h : ∀ x G1, RW Y d pc' ls (vL_ x :: st) G1 (k x G1)) : ∀ v G1, c' = some (.inl v, G1) → RW Y d pc' ls (v.toList ++ st) G1 (bL_ (some (.inl v, G1)) k) := by
  intro v G1 _
  rcases v with _ | x | x | x
  · exact rw_none
  · exact rw_none
  · exact h x G1
  · exact rw_none
theorem kA_ {pc' : Nat} {c' : AwC} {k : Option Nat → AwH → AwC} (h : ∀ x G1, RW Y d pc' ls (vA_ x :: st) G1 (k x G1)) : ∀ v G1, c' = some (.inl v, G1) → RW Y d pc' ls (v.toList ++ st) G1 (bA_ (some (.inl v, G1)) k) := by
  intro v G1 _
  rcases v with _ | x | x | x
  · exact rw_none
  · exact rw_none
  · exact rw_none
  · exact h x G1
theorem kV_ {pc' : Nat} {c' : AwC} {k : AwH → AwC} (h : ∀ G1, RW Y d pc' ls st G1 (k G1)) : ∀ v G1, c' = some (.inl v, G1) → RW Y d pc' ls (v.toList ++ st) G1 (bV_ (some (.inl v, G1)) k) := by
  intro v G1 _
  rcases v with _ | x | x | x
  · exact h G1
  · exact rw_none
  · exact rw_none
  · exact rw_none
/-- the same, where exceptions are caught -/
theorem kBX_ {pc' : Nat} {c' : AwC} {hx : Nat → AwH → AwC} {b : AwC → AwC} (h : ∀ v G1, c' = some (.inl v, G1) → RW Y d pc' ls (v.toList ++ st) G1 (b (some (.inl v, G1)))) : ∀ v G1, c' = some (.inl v, G1) → RW Y d pc' ls (v.toList ++ st) G1 (bX_ (some (.inl v, G1)) hx b) := h
/-- an exception that nothing catches here -/
theorem rx_out {x : Nat} (hout : ∀ z ∈ tableOf Y.2.2.2.2, covers z pc = false) : RX Y d pc ls G x (rX_ x G) := by
  intro r G' e
  cases e
  refine ⟨aw_mo.rf, fun p l e R s m args below meth c base D dA ad0 G0 C ad H locs cells slots lsC rest q ce I hce hcv hcl => ?_⟩
  obtain ⟨i1, hh, i3, i4, i5, i6, i7, i8⟩ := I
  refine vx_out (E := aw_ex x) (fun z hz => hout z (by rw [← C.2.2.2.2.2.2.2.1]; exact hz)) C.2.2.2.2.1 hce hcv hcl (fun t ht hal => ⟨⟨ad, x, rfl, rfl, i1, ?_⟩, i3.F ht⟩) i3.2.2 (by omega) (by omega)
  rw [ht]
  exact aw_X.moved hal hh
theorem kX_ {c' : AwC} {b : AwC → AwC} (hb : ∀ e G1, b (some (.inr e, G1)) = rX_ e G1) (hout : ∀ z ∈ tableOf Y.2.2.2.2, covers z pc = false) : ∀ e G1, c' = some (.inr e, G1) → RX Y d pc ls G1 e (b (some (.inr e, G1))) := by
  intro e G1 _
  rw [hb]
  exact rx_out hout
/-- caught by the row z of the table; the rows ahead don't take it -/
theorem rx_catch {x i len : Nat} {ins : Instr} {pre suf : List ExceptionTableEntry} {z : ExceptionTableEntry} (hsp : tableOf Y.2.2.2.2 = pre ++ z :: suf)
    (hpass : ∀ y ∈ pre, covers y pc = false ∨ (y.catchType ≠ 0 ∧ ∃ nm : String, Cond.classLink Y.1.cls y.catchType nm ∈ lw_all ∧ (aw_ex x, nm) ∈ aw_nc)) (hcov : covers z pc = true) (h0 : z.catchType ≠ 0)
    (hlink : Cond.classLink Y.1.cls z.catchType (aw_ex x) ∈ lw_all) (hcast : Cond.castable (aw_ex x) (aw_ex x) ∈ lw_tbl)
    (hd : decode Y.2.1 z.handlerPc = .ok (ins, len)) (hi : (∃ n : Fin 4, ins = .astore_n n ∧ (n : Nat) = i ∧ len = 1) ∨ (ins = .astore i ∧ len = 2)) (hn : i < Y.2.2.1)
    (kk : RW Y d (z.handlerPc + len) (aw_f1 i ls) [] G c) : RX Y d pc ls G x c := by
  intro r G' e
  obtain ⟨h1, h2⟩ := kk r G' e
  refine ⟨h1, fun p l e R s m args below meth c base D dA ad0 G0 C ad H locs cells slots lsC rest q ce I hce hcv hcl => ?_⟩
  obtain ⟨i1, hh, i3, i4, i5, i6, i7, i8⟩ := I
  obtain ⟨x1, x2, x3, x4, x5, x6, x7, x8, x9, x10, x11, x12, x13, x14, x15, x16, x17⟩ := C
  refine vx_catch x4 pre z suf (x8.trans hsp) (fun y hy => ?_) hcov h0 (x3 _ hlink) (va_Nw.use rfl (x15.2.1 _ hcast rfl)) hce hcv hcl ?_
  · rcases hpass y hy with h | ⟨h, nm, h3, h4⟩
    · exact Or.inl h
    · exact Or.inr ⟨h, nm, x3 _ h3, x15.2.2.1 _ h4⟩
  · have go : ∀ lsC', lv_has lsC' Y.2.2.1 ((i, Value.ref q) :: (aw_f1 i ls).map fun q => (q.1, aw_cv ad q.2)) → W p l e R s m args below meth c H locs cells slots (aw_PQ below base D dA ad0 G0 r G' args s) (F0 m (z.handlerPc + len) lsC' []) := by
      intro lsC' hl'
      refine h2 p l e R s m args below meth c base D dA ad0 G0 ⟨x1, x2, x3, x4, x5, x6, x7, x8, x9, x10, x11, x12, x13, x14, x15, x16, x17⟩ ad H locs cells slots lsC' ⟨i1, hh, i3, ⟨hl'.1, hl'.2.1, fun y hy => hl'.2.2 y (List.mem_cons_of_mem _ hy)⟩, fun y hy => i5 y (List.mem_filter.mp hy).1, fun v h => (by cases h), i7, i8⟩
    rcases hi with ⟨n, rfl, hn2, rfl⟩ | ⟨rfl, rfl⟩
    · exact lv_astore_n x1 x2 hd hn2 i4 hn (by rw [aw_f1_map]) go
    · exact lv_astore x1 x2 hd i4 hn (by rw [aw_f1_map]) go
section
variable {Y' : AwM} {d' n idx : Nat} {as st0 : List AwV} {c' : AwC} {kc : AwC → AwC} {x : Option Nat} {a t : Nat}
theorem rw_callV (cb : aw_cb Y' n) (hcn : aw_cn t = Y'.1.cls) (hsel : Cond.selects Y'.1.cls Y'.1 Y'.1 ∈ lw_all) (hin : Cond.instanceMethod Y'.1 ∈ lw_all) (hq : Cond.methodLink Y.1.cls idx Y'.1 ∈ lw_all) (hd : decode Y.2.1 pc = .ok (.invokevirtual idx, 3)) (hx : x = some a) (htg : tg_ a = t) (ht : t < 18) (hdd : d' < d) (hn : as.length = n) (hst : st0 = as.reverse ++ vA_ x :: st) (hsz : aw_sz st ≤ 8) (hM : RM Y' d' (vA_ (some a) :: as) G c') (kn : kc none = none)
    (kk : ∀ v G1, c' = some (.inl v, G1) → RW Y d (pc + 3) ls (v.toList ++ st) G1 (kc (some (.inl v, G1))))
    (kx : ∀ e G1, c' = some (.inr e, G1) → RX Y d pc ls G1 e (kc (some (.inr e, G1)))) : RW Y d pc ls st0 G (kc c') := by
  subst hst
  subst hx
  refine rw_callC (vs := (vA_ (some a) :: as)) (st := st) hM ?_ (by intro v hv; simp at hv ⊢; rcases hv with h | h <;> simp [h]) (by intro v hv; simp [hv]) kn kk kx
  intro p l e R s m args below meth c H locs cells slots mc ms lsC base D dA ad Qc XC hx hb hml hls hts hown hT hh hok hfr hlo hc1 hc2 hMet hbl hpre
  have hrm : (aw_rm d' mc ms).frames + 1 ≤ R.frames ∧ 8 + (Y'.2.2.1 + 11) + (aw_rm d' mc ms).locals ≤ R.locals := by
    have h21 := cb.2.2.2.1
    rw [aw_rm_f, aw_rm_l]
    omega
  have hst9 : ((as.reverse ++ vA_ (some a) :: st).map (aw_cv ad)) = (as.map (aw_cv ad)).reverse ++ .ref (ad a) :: st.map (aw_cv ad) := by rw [List.map_append, List.map_reverse]; rfl
  have ham : a ∈ gA_ G := aw_in_A (hok _ (by simp)) hh.2.2.2.1 htg (by omega)
  have hrv := aw_recv hT hh ham (Or.inl (by rw [htg]; exact ht))
  have hpre9 : ∀ U : State, U.heap = H → s.WarmedH U.vm → va_Pc ((vA_ (some a) :: as).map (aw_cv ad)) (aw_B base D dA ad G (vA_ (some a) :: as)) (Value.ref (ad a) :: as.map (aw_cv ad)).toArray U := hpre
  rw [hst9]
  rw [aw_wd0 cb.2.2.2.2] at hMet
  rw [htg, hcn] at hrv
  exact vx_runV ⟨hx, hb, hml, hown, hts⟩ hMet (cwV n hts (lw_V hq hin hsel cb.2.1 cb.1) rfl rfl rfl ⟨rfl, cb.2.2.1⟩ hrm) ⟨hbl, hrv, hpre9⟩ rfl (by rw [List.length_map]; exact hn) hls rfl (lv_room (by rw [aw_sz_cat]; exact hsz)) hd ⟨hc1, hc2⟩
theorem rw_callVH (cb : aw_cbH Y' n) (hcn : aw_cn t = Y'.1.cls) (hsel : Cond.selects Y'.1.cls Y'.1 Y'.1 ∈ lw_all) (hin : Cond.instanceMethod Y'.1 ∈ lw_all) (hq : Cond.methodLink Y.1.cls idx Y'.1 ∈ lw_all) (hd : decode Y.2.1 pc = .ok (.invokevirtual idx, 3)) (hx : x = some a) (htg : tg_ a = t) (ht : t < 18) (hdd : d' < d) (hn : as.length = n) (hst : st0 = as.reverse ++ vA_ x :: st) (hsz : aw_sz st ≤ 8) (hM : RM Y' d' (vA_ (some a) :: as) G c') (kn : kc none = none)
    (kk : ∀ v G1, c' = some (.inl v, G1) → RW Y d (pc + 3) ls (v.toList ++ st) G1 (kc (some (.inl v, G1))))
    (kx : ∀ e G1, c' = some (.inr e, G1) → RX Y d pc ls G1 e (kc (some (.inr e, G1)))) : RW Y d pc ls st0 G (kc c') := by
  subst hst
  subst hx
  refine rw_callC (vs := (vA_ (some a) :: as)) (st := st) hM ?_ (by intro v hv; simp at hv ⊢; rcases hv with h | h <;> simp [h]) (by intro v hv; simp [hv]) kn kk kx
  intro p l e R s m args below meth c H locs cells slots mc ms lsC base D dA ad Qc XC hx hb hml hls hts hown hT hh hok hfr hlo hc1 hc2 hMet hbl hpre
  have hrm : (aw_rm d' mc ms).frames + 1 ≤ R.frames ∧ 8 + (Y'.2.2.1 + 11) + (aw_rm d' mc ms).locals ≤ R.locals := by
    have h21 := cb.2.2.2.1
    rw [aw_rm_f, aw_rm_l]
    omega
  have hst9 : ((as.reverse ++ vA_ (some a) :: st).map (aw_cv ad)) = (as.map (aw_cv ad)).reverse ++ .ref (ad a) :: st.map (aw_cv ad) := by rw [List.map_append, List.map_reverse]; rfl
  have ham : a ∈ gA_ G := aw_in_A (hok _ (by simp)) hh.2.2.2.1 htg (by omega)
  have hrv := aw_recv hT hh ham (Or.inl (by rw [htg]; exact ht))
  have hpre9 : ∀ U : State, U.heap = H → s.WarmedH U.vm → va_Pc ((vA_ (some a) :: as).map (aw_cv ad)) (aw_B base D dA ad G (vA_ (some a) :: as)) (Value.ref (ad a) :: as.map (aw_cv ad)).toArray U := hpre
  rw [hst9]
  rw [aw_wdH cb.2.2.2.2] at hMet
  rw [htg, hcn] at hrv
  exact vx_runVX ⟨hx, hb, hml, hown, hts⟩ hMet (vx_cwVW n hts (lw_VW hq hin hsel cb.2.1 cb.1) rfl rfl rfl ⟨rfl, cb.2.2.1⟩ hrm) ⟨hbl, hrv, hpre9⟩ rfl (by rw [List.length_map]; exact hn) hls rfl (lv_room (by rw [aw_sz_cat]; exact hsz)) hd ⟨hc1, hc2⟩
theorem rw_callI (cb : aw_cb Y' n) (hr0 : Y'.2.2.2.1 = none) (hin : Cond.instanceMethod Y'.1 ∈ lw_all) (hy : Y'.1.name = "<init>") (hq : Cond.methodLink Y.1.cls idx Y'.1 ∈ lw_all) (hd : decode Y.2.1 pc = .ok (.invokespecial idx, 3)) (hx : x = some a) (hdd : d' < d) (hn : as.length = n) (hst : st0 = as.reverse ++ vA_ x :: st) (hsz : aw_sz st ≤ 8) (hM : RM Y' d' (vA_ (some a) :: as) G c') (kn : kc none = none)
    (kk : ∀ v G1, c' = some (.inl v, G1) → RW Y d (pc + 3) ls (v.toList ++ st) G1 (kc (some (.inl v, G1))))
    (kx : ∀ e G1, c' = some (.inr e, G1) → RX Y d pc ls G1 e (kc (some (.inr e, G1)))) : RW Y d pc ls st0 G (kc c') := by
  subst hst
  subst hx
  refine rw_callC (vs := (vA_ (some a) :: as)) (st := st) hM ?_ (by intro v hv; simp at hv ⊢; rcases hv with h | h <;> simp [h]) (by intro v hv; simp [hv]) kn kk kx
  intro p l e R s m args below meth c H locs cells slots mc ms lsC base D dA ad Qc XC hx hb hml hls hts hown hT hh hok hfr hlo hc1 hc2 hMet hbl hpre
  have hrm : (aw_rm d' mc ms).frames + 1 ≤ R.frames ∧ 8 + (Y'.2.2.1 + 11) + (aw_rm d' mc ms).locals ≤ R.locals := by
    have h21 := cb.2.2.2.1
    rw [aw_rm_f, aw_rm_l]
    omega
  have hst9 : ((as.reverse ++ vA_ (some a) :: st).map (aw_cv ad)) = (as.map (aw_cv ad)).reverse ++ .ref (ad a) :: st.map (aw_cv ad) := by rw [List.map_append, List.map_reverse]; rfl
  have hpre9 : ∀ U : State, U.heap = H → s.WarmedH U.vm → va_Pc ((vA_ (some a) :: as).map (aw_cv ad)) (aw_B base D dA ad G (vA_ (some a) :: as)) (Value.ref (ad a) :: as.map (aw_cv ad)).toArray U := hpre
  rw [hst9]
  rw [aw_wd0 cb.2.2.2.2, hr0] at hMet
  have hcode := cb.1
  rw [hr0] at hcode
  exact vx_runI ⟨hx, hb, hml, hown, hts⟩ hMet (cwI n hts (lw_meth hcode) rfl rfl rfl (hts _ cb.2.1) (hts _ hq) (hts _ hin) hy cb.2.2.1 hrm) ⟨hbl, hpre9⟩ rfl (by rw [List.length_map]; exact hn) hls rfl (lv_room (by rw [aw_sz_cat]; exact hsz)) hd ⟨hc1, hc2⟩
theorem rw_callIN {host : String} (cb : aw_cb Y' n) (hr0 : Y'.2.2.2.1 = none) (hin : Cond.instanceMethod Y'.1 ∈ lw_all) (hy : Y'.1.name = "<init>") (hq : Cond.methodLinkNest Y.1.cls idx Y'.1 host ∈ lw_tbl) (hd : decode Y.2.1 pc = .ok (.invokespecial idx, 3)) (hx : x = some a) (hdd : d' < d) (hn : as.length = n) (hst : st0 = as.reverse ++ vA_ x :: st) (hsz : aw_sz st ≤ 8) (hM : RM Y' d' (vA_ (some a) :: as) G c') (kn : kc none = none)
    (kk : ∀ v G1, c' = some (.inl v, G1) → RW Y d (pc + 3) ls (v.toList ++ st) G1 (kc (some (.inl v, G1))))
    (kx : ∀ e G1, c' = some (.inr e, G1) → RX Y d pc ls G1 e (kc (some (.inr e, G1)))) : RW Y d pc ls st0 G (kc c') := by
  subst hst
  subst hx
  refine rw_callC (vs := (vA_ (some a) :: as)) (st := st) hM ?_ (by intro v hv; simp at hv ⊢; rcases hv with h | h <;> simp [h]) (by intro v hv; simp [hv]) kn kk kx
  intro p l e R s m args below meth c H locs cells slots mc ms lsC base D dA ad Qc XC hx hb hml hls hts hown hT hh hok hfr hlo hc1 hc2 hMet hbl hpre
  have hrm : (aw_rm d' mc ms).frames + 1 ≤ R.frames ∧ 8 + (Y'.2.2.1 + 11) + (aw_rm d' mc ms).locals ≤ R.locals := by
    have h21 := cb.2.2.2.1
    rw [aw_rm_f, aw_rm_l]
    omega
  have hst9 : ((as.reverse ++ vA_ (some a) :: st).map (aw_cv ad)) = (as.map (aw_cv ad)).reverse ++ .ref (ad a) :: st.map (aw_cv ad) := by rw [List.map_append, List.map_reverse]; rfl
  have hpre9 : ∀ U : State, U.heap = H → s.WarmedH U.vm → va_Pc ((vA_ (some a) :: as).map (aw_cv ad)) (aw_B base D dA ad G (vA_ (some a) :: as)) (Value.ref (ad a) :: as.map (aw_cv ad)).toArray U := hpre
  rw [hst9]
  rw [aw_wd0 cb.2.2.2.2, hr0] at hMet
  have hcode := cb.1
  rw [hr0] at hcode
  exact vx_runIN ⟨hx, hb, hml, hown, hts⟩ hMet ⟨va_cnB n hts (lw_meth hcode) rfl rfl rfl (hT.2.1 _ hq rfl) (hts _ cb.2.1) cb.2.2.1 hrm, hy, hts _ hin⟩ ⟨hbl, hpre9⟩ rfl (by rw [List.length_map]; exact hn) hls rfl (lv_room (by rw [aw_sz_cat]; exact hsz)) hd ⟨hc1, hc2⟩
theorem rw_callS (cb : aw_cb Y' n) (hstt : Cond.static Y'.1 ∈ lw_all) (hq : Cond.methodLink Y.1.cls idx Y'.1 ∈ lw_all) (hd : decode Y.2.1 pc = .ok (.invokestatic idx, 3)) (hdd : d' < d) (hn : as.length = n) (hst : st0 = as.reverse ++ st) (hsz : aw_sz st ≤ 8) (hM : RM Y' d' as G c') (kn : kc none = none)
    (kk : ∀ v G1, c' = some (.inl v, G1) → RW Y d (pc + 3) ls (v.toList ++ st) G1 (kc (some (.inl v, G1))))
    (kx : ∀ e G1, c' = some (.inr e, G1) → RX Y d pc ls G1 e (kc (some (.inr e, G1)))) : RW Y d pc ls st0 G (kc c') := by
  subst hst
  refine rw_callC (vs := as) (st := st) hM ?_ (by intro v hv; simp at hv ⊢; simp [hv]) (by intro v hv; simp [hv]) kn kk kx
  intro p l e R s m args below meth c H locs cells slots mc ms lsC base D dA ad Qc XC hx hb hml hls hts hown hT hh hok hfr hlo hc1 hc2 hMet hbl hpre
  have hrm : (aw_rm d' mc ms).frames + 1 ≤ R.frames ∧ 8 + (Y'.2.2.1 + 11) + (aw_rm d' mc ms).locals ≤ R.locals := by
    have h21 := cb.2.2.2.1
    rw [aw_rm_f, aw_rm_l]
    omega
  have hst9 : ((as.reverse ++ st).map (aw_cv ad)) = (as.map (aw_cv ad)).reverse ++ st.map (aw_cv ad) := by rw [List.map_append, List.map_reverse]
  rw [hst9]
  rw [aw_wd0 cb.2.2.2.2] at hMet
  exact vx_runS ⟨hx, hb, hml, hown, hts⟩ hMet (va_cwS n hts (lw_S hq hstt cb.2.1 cb.1) rfl rfl rfl cb.2.2.1 hrm) ⟨hbl, hpre⟩ rfl (by rw [List.length_map]; exact hn) hls rfl (lv_room (by rw [aw_sz_cat]; exact hsz)) hd ⟨hc1, hc2⟩
theorem rw_callF {cnt : Nat} {X : MethodName} (cb : aw_cb Y' n) (hfw : (aw_cn t, X, Y'.1) ∈ aw_fw) (hsel : Cond.selects (aw_cn t) X Y'.1 ∈ lw_all) (hin : Cond.instanceMethod Y'.1 ∈ lw_all) (hxd : X.cls ≠ "java/lang/invoke/MethodHandle" ∧ X.cls ≠ "java/lang/invoke/VarHandle" ∧ (parseMethodDescriptor X.desc).map (fun d => d.parameters.length) = some n) (hq : Cond.methodLink Y.1.cls idx X ∈ lw_all) (hd : decode Y.2.1 pc = .ok (.invokeinterface idx cnt, 5)) (hx : x = some a) (htg : tg_ a = t) (ht : t < 18) (hdd : d' < d) (hn : as.length = n) (hst : st0 = as.reverse ++ vA_ x :: st) (hsz : aw_sz st ≤ 8) (hM : RM Y' d' (vA_ (some a) :: as) G c') (kn : kc none = none)
    (kk : ∀ v G1, c' = some (.inl v, G1) → RW Y d (pc + 5) ls (v.toList ++ st) G1 (kc (some (.inl v, G1))))
    (kx : ∀ e G1, c' = some (.inr e, G1) → RX Y d pc ls G1 e (kc (some (.inr e, G1)))) : RW Y d pc ls st0 G (kc c') := by
  subst hst
  subst hx
  refine rw_callC (vs := (vA_ (some a) :: as)) (st := st) hM ?_ (by intro v hv; simp at hv ⊢; rcases hv with h | h <;> simp [h]) (by intro v hv; simp [hv]) kn kk kx
  intro p l e R s m args below meth c H locs cells slots mc ms lsC base D dA ad Qc XC hx hb hml hls hts hown hT hh hok hfr hlo hc1 hc2 hMet hbl hpre
  have hrm : (aw_rm d' mc ms).frames + 1 ≤ R.frames ∧ 8 + (Y'.2.2.1 + 11) + (aw_rm d' mc ms).locals ≤ R.locals := by
    have h21 := cb.2.2.2.1
    rw [aw_rm_f, aw_rm_l]
    omega
  have hst9 : ((as.reverse ++ vA_ (some a) :: st).map (aw_cv ad)) = (as.map (aw_cv ad)).reverse ++ .ref (ad a) :: st.map (aw_cv ad) := by rw [List.map_append, List.map_reverse]; rfl
  have ham : a ∈ gA_ G := aw_in_A (hok _ (by simp)) hh.2.2.2.1 htg (by omega)
  have hrv := aw_recv hT hh ham (Or.inl (by rw [htg]; exact ht))
  have hpre9 : ∀ U : State, U.heap = H → s.WarmedH U.vm → va_Pc ((vA_ (some a) :: as).map (aw_cv ad)) (aw_B base D dA ad G (vA_ (some a) :: as)) (Value.ref (ad a) :: as.map (aw_cv ad)).toArray U := hpre
  rw [hst9]
  rw [aw_wd0 cb.2.2.2.2] at hMet
  rw [htg] at hrv
  obtain ⟨r, hr⟩ : ∃ r, aw_cl[t]? = some r := ⟨_, List.getElem?_eq_getElem (show t < aw_cl.length from ht)⟩
  have hat : ClassAt s (aw_cn t) (D.1 t) := by rw [aw_cn_o t r hr]; exact (hT.1.1 t r hr).2
  exact vx_runF hat ⟨hx, hb, hml, hown, hts⟩ hMet (va_cwF n hts (lw_app (by intro w9 h9; simp at h9; rcases h9 with rfl | rfl | rfl | rfl; exact hq; exact hsel; exact hin; exact cb.2.1) (lw_meth cb.1)) rfl rfl rfl (hT.2.2.2.2.1 _ hfw) hxd hrm) ⟨hbl, hrv, hpre9⟩ rfl (by rw [List.length_map]; exact hn) hls rfl (lv_room (by rw [aw_sz_cat]; exact hsz)) hd ⟨hc1, hc2⟩
end
end AwKinds
