/-! ===== calls by the receiver's class, the superclass's methods, arraycopy ===== -/
section AwVirt
variable {Y : AwM} {d pc : Nat} {ls : List (Nat × AwV)} {st : List AwV} {G : AwH} {c c1 c2 : AwC}
variable {Y' : AwM} {d' n idx : Nat} {as st0 : List AwV} {c' : AwC} {kc : AwC → AwC} {x : Option Nat} {a t : Nat}
/-- the method named is declared: by its code, or abstract -/
def aw_dc (x : MethodName) : Prop := (∃ b m r, Cond.instanceMethod x ∈ lw_all ∧ Cond.code x b m r ∈ lw_all) ∨ Cond.declares x ∈ lw_tbl
theorem aw_dc_of {x : MethodName} {D : va_G} {dA : Nat → ClassId} {s : State} {args : Array Value} (h : aw_dc x) (hts : ∀ w ∈ lw_all, w.before args s = true) (hT : aw_T D dA s) : va_Decl s x := by
  rcases h with ⟨b, m, r, h1, h2⟩ | h
  · exact va_Decl.of (hts _ h1) (hts _ h2)
  · exact va_Decl.abs (hT.2.1 _ h rfl)
theorem aw_pay {Y' : AwM} {s : State} {args : Array Value} (cb : aw_cb Y' n) (hts : ∀ w ∈ lw_all, w.before args s = true) : ∀ w ∈ ws_ Y'.1 Y'.2.1 Y'.2.2.1 Y'.2.2.2.1, ∀ (a' : Array Value) (U : State), s.WarmedH U.vm → w.before a' U = true := pay_in hts (lw_meth cb.1)
theorem rw_callU {X : MethodName} {owner : String} (cb : aw_cb Y' n) (hdc : aw_dc ⟨owner, X.name, X.desc⟩) (hsm : Cond.sameMethod X.cls owner X.name X.desc ∈ lw_all) (how : owner ≠ "java/lang/invoke/MethodHandle" ∧ owner ≠ "java/lang/invoke/VarHandle") (hXd : (parseMethodDescriptor X.desc).map (fun d => d.parameters.length) = some n) (hsel : Cond.selects (aw_cn t) X Y'.1 ∈ lw_all) (hin : Cond.instanceMethod Y'.1 ∈ lw_all) (hq : Cond.methodLink Y.1.cls idx X ∈ lw_all) (hd : decode Y.2.1 pc = .ok (.invokevirtual idx, 3)) (hx : x = some a) (htg : tg_ a = t) (ht : t < 18) (hdd : d' < d) (hn : as.length = n) (hst : st0 = as.reverse ++ vA_ x :: st) (hsz : aw_sz st ≤ 8) (hM : RM Y' d' (vA_ (some a) :: as) G c') (kn : kc none = none)
    (kk : ∀ v G1, c' = some (.inl v, G1) → RW Y d (pc + 3) ls (v.toList ++ st) G1 (kc (some (.inl v, G1))))
    (kx : ∀ e G1, c' = some (.inr e, G1) → RX Y d pc ls G1 e (kc (some (.inr e, G1)))) : RW Y d pc ls st0 G (kc c') := by
  subst hst
  subst hx
  refine rw_callC (vs := (vA_ (some a) :: as)) (st := st) hM ?_ (by intro v hv; simp at hv ⊢; rcases hv with h | h <;> simp [h]) (by intro v hv; simp [hv]) kn kk kx
  intro p l e R s m args below meth c H locs cells slots mc ms lsC base D dA ad Qc XC hx hb hml hls hts hown hT hh hok hfr hlo hc1 hc2 hMet hbl hpre
  have hrm : (aw_rm d' mc ms).frames + 1 ≤ R.frames ∧ 8 + (Y'.2.2.1 + 11) + (aw_rm d' mc ms).locals ≤ R.locals := by
    have h21 := cb.2.2.2.1
    rw [aw_rm_f, aw_rm_l]
    omega
  have hst9 : ((as.reverse ++ vA_ (some a) :: st).map (aw_cv ad)) = (as.map (aw_cv ad)).reverse ++ .ref (ad a) :: st.map (aw_cv ad) := by rw [List.map_append, List.map_reverse]; rfl
  have ham : a ∈ gA_ G := aw_in_A (hok _ (by simp)) hh.2.2.2.1 htg (by omega)
  have hrv := aw_recv hT hh ham (Or.inl (by rw [htg]; exact ht))
  have hpre9 : ∀ U : State, U.heap = H → s.WarmedH U.vm → va_Pc ((vA_ (some a) :: as).map (aw_cv ad)) (aw_B base D dA ad G (vA_ (some a) :: as)) (Value.ref (ad a) :: as.map (aw_cv ad)).toArray U := hpre
  rw [hst9]
  rw [aw_wd0 cb.2.2.2.2] at hMet
  rw [htg] at hrv
  exact vx_runU (C := aw_cn t) (owner := owner) (x := X) ⟨hx, hb, hml, hown, hts⟩ hMet ⟨⟨rfl, rfl, hrm.1, hrm.2, aw_pay cb hts, List.mem_cons_self⟩, hts _ cb.1, hts _ cb.2.1, how, fun sig h => by rw [h] at hXd; exact (Option.some.inj hXd).symm, hts _ hq, hts _ hsm, aw_dc_of hdc hts hT, hts _ hsel, hts _ hin⟩ ⟨hbl, hrv, hpre9⟩ rfl (by rw [List.length_map]; exact hn) hls rfl (lv_room (by rw [aw_sz_cat]; exact hsz)) hd ⟨hc1, hc2⟩
/-- the superclass's method, or its superclass's -/
theorem rw_callSP {X : MethodName} (cb : aw_cb Y' n) (hXY : Y'.1 = ⟨Y'.1.cls, X.name, X.desc⟩) (hsm : Cond.sameMethod X.cls Y'.1.cls X.name X.desc ∈ lw_all) (hsup : Cond.superclass Y.1.cls X.cls ∈ lw_all) (hup : X.cls = Y'.1.cls ∨ Cond.superclass X.cls Y'.1.cls ∈ lw_all) (hno : X.name ≠ "<init>") (hin : Cond.instanceMethod Y'.1 ∈ lw_all) (hq : Cond.methodLink Y.1.cls idx X ∈ lw_all) (hd : decode Y.2.1 pc = .ok (.invokespecial idx, 3)) (hx : x = some a) (ht : tg_ a < 18) (hdd : d' < d) (hn : as.length = n) (hst : st0 = as.reverse ++ vA_ x :: st) (hsz : aw_sz st ≤ 8) (hM : RM Y' d' (vA_ (some a) :: as) G c') (kn : kc none = none)
    (kk : ∀ v G1, c' = some (.inl v, G1) → RW Y d (pc + 3) ls (v.toList ++ st) G1 (kc (some (.inl v, G1))))
    (kx : ∀ e G1, c' = some (.inr e, G1) → RX Y d pc ls G1 e (kc (some (.inr e, G1)))) : RW Y d pc ls st0 G (kc c') := by
  subst hst
  subst hx
  refine rw_callC (vs := (vA_ (some a) :: as)) (st := st) hM ?_ (by intro v hv; simp at hv ⊢; rcases hv with h | h <;> simp [h]) (by intro v hv; simp [hv]) kn kk kx
  intro p l e R s m args below meth c H locs cells slots mc ms lsC base D dA ad Qc XC hx hb hml hls hts hown hT hh hok hfr hlo hc1 hc2 hMet hbl hpre
  have hrm : (aw_rm d' mc ms).frames + 1 ≤ R.frames ∧ 8 + (Y'.2.2.1 + 11) + (aw_rm d' mc ms).locals ≤ R.locals := by
    have h21 := cb.2.2.2.1
    rw [aw_rm_f, aw_rm_l]
    omega
  have hst9 : ((as.reverse ++ vA_ (some a) :: st).map (aw_cv ad)) = (as.map (aw_cv ad)).reverse ++ .ref (ad a) :: st.map (aw_cv ad) := by rw [List.map_append, List.map_reverse]; rfl
  have ham : a ∈ gA_ G := aw_in_A (hok _ (by simp)) hh.2.2.2.1 (show a % 64 = tg_ a from rfl) (by omega)
  obtain ⟨cellB, hcB, hoB, hclB⟩ := aw_recv hT hh ham (Or.inl ht)
  have hpre9 : ∀ U : State, U.heap = H → s.WarmedH U.vm → va_Pc ((vA_ (some a) :: as).map (aw_cv ad)) (aw_B base D dA ad G (vA_ (some a) :: as)) (Value.ref (ad a) :: as.map (aw_cv ad)).toArray U := hpre
  rw [hst9]
  rw [aw_wd0 cb.2.2.2.2] at hMet
  have hK : vx_Back l R p e below s args Y'.1 3 8 (PreOf R mc ms (va_Pc ((vA_ (some a) :: as).map (aw_cv ad)) (aw_B base D dA ad G (vA_ (some a) :: as)))) (PostOf Qc mc ms (fun q => base ≤ q)) (vx_Post XC mc ms (fun q => base ≤ q)) := vx_back (bytes := Y'.2.1) (maxL := Y'.2.2.1) (ret := Y'.2.2.2.1) hMet hbl rfl rfl hrm.1 hrm.2 (aw_pay cb hts) List.mem_cons_self (fun a' U hW => word_at hW (Or.inl (by first | rfl | simp [Cond.onTables, Cond.keeps, Cond.steady])) (hts _ cb.2.1))
  obtain ⟨mk, methM, hnamed, hmethM, hstM, habM⟩ := Cond.instanceMethod_spec (hts _ hin)
  obtain ⟨methM', cM, hmethM', -, -, -, -, -, -, hsigM⟩ := Cond.code_spec hnamed (hts _ cb.1)
  cases hmethM.symm.trans hmethM'
  obtain ⟨ps, dk, kp, hps, hdk, hkp, hsuper, -, -, hnid⟩ := Cond.superclass_spec hown (hts _ hsup)
  have hn9 : s.methodNamed? ⟨Y'.1.cls, X.name, X.desc⟩ = some mk := by rw [← hXY]; exact hnamed
  have hmc : s.vm.findClass Y'.1.cls = some mk.cls := findClass_of_methodNamed hnamed
  have hsub : s.vm.isSubclass ps mk.cls = true := by
    rcases hup with h | h
    · rw [h] at hps
      rw [Option.some.inj (hps.symm.trans hmc)]
      simp [Vm.isSubclass, Vm.isSubclassAux]
    · obtain ⟨p2, k1, k2, e1, e2, e3, e4, -⟩ := Cond.superclass_spec hps (hts _ h)
      cases Option.some.inj (e1.symm.trans hmc)
      unfold Vm.isSubclass
      have hsz9 : ∃ z, s.vm.classes.size = z + 1 := by
        have := (Array.getElem?_eq_some_iff.mp e2).1
        exact ⟨s.vm.classes.size - 1, by omega⟩
      obtain ⟨z, hz⟩ := hsz9
      rw [hz]
      simp [Vm.isSubclassAux, e2, e4]
  obtain ⟨kB, hkB, -⟩ := Vm.findClass_spec hclB
  have hlen9 : (as.map (aw_cv ad)).length = methM.sig.parameters.length := by
    rw [List.length_map, hn]
    have := cb.2.2.1.2.2
    rw [hsigM] at this
    exact (Option.some.inj this).symm
  intro T hT9 Xs
  obtain ⟨vm₁, X₁, hstep₁⟩ := Xs.invokespecialUp hx hown (hts _ hq) (hts _ hsm) hn9 hmethM hstM habM hno hdk hnid hps hsuper hsub (a := ad a) (cell := cellB) (by rw [hT9]; exact hcB)
    (fun z h => by rw [h] at hoB; cases hoB) hkB (g := F0 m pc lsC ((as.map (aw_cv ad)).reverse ++ .ref (ad a) :: st.map (aw_cv ad))) rfl (argsL := as.map (aw_cv ad)) (rest := st.map (aw_cv ad)) hlen9 rfl (by rw [hb]; exact hd)
  rcases hK m meth c ⟨T.setVm vm₁, locs, cells, slots⟩ (F0 m pc lsC (st.map (aw_cv ad))) (.invokespecial idx) mk (Value.ref (ad a) :: as.map (aw_cv ad)).toArray X₁ rfl (hls.trans hml.symm) (by rw [hb]; exact hd) (lv_room (by rw [aw_sz_cat]; exact hsz)) (X₁.named hnamed) ⟨hc1, hc2, hpre9 (T.setVm vm₁) hT9 X₁.warmed⟩ with ⟨v, ⟨U', l2, c2, s2⟩, X', ⟨g', mk9, t, L, e1, e2, hq9, h1, hL, h2, h3⟩, hsteps⟩ | ⟨q, ⟨U', l2, c2, s2⟩, X', ⟨g', mk9, t, L, E, ce, e1, e2, hq9, hce, hcv, hcl, h1, hL, h2, h3⟩, hsteps⟩
  · dsimp only [Pt.U, Pt.locs, Pt.cells, Pt.slots] at X' e1 e2 h1 h2 h3 hsteps
    subst h1; subst h2; subst h3
    exact Or.inl ⟨v, (T.setVm vm₁).calling g' mk9 (Value.ref (ad a) :: as.map (aw_cv ad)).toArray, t, U', L, hT9, X', hL, e1, e2, hq9, fun target h => hstep₁ _ (by rw [doInvoke_state]; exact hsteps.trans h)⟩
  · dsimp only [Pt.U, Pt.locs, Pt.cells, Pt.slots] at X' e1 e2 h1 h2 h3 hsteps hcl
    subst h1; subst h2; subst h3
    exact Or.inr ⟨q, (T.setVm vm₁).calling g' mk9 (Value.ref (ad a) :: as.map (aw_cv ad)).toArray, t, U', L, E, ce, hT9, X', hL, e1, e2, hq9, hce, hcv, vx_cls X₁.warmed hcl, hstep₁ _ (by rw [doInvoke_state]; exact hsteps)⟩
/-- Object's constructor -/
theorem rw_objInit {rx : Option Nat} {ra : Nat} (hq : Cond.methodLink Y.1.cls idx Lib.objectInit ∈ lw_all) (hin : Cond.instanceMethod Lib.objectInit ∈ lw_all) (hco : Cond.code Lib.objectInit ⟨#[0xb1]⟩ 1 none ∈ lw_all) (hd : decode Y.2.1 pc = .ok (.invokespecial idx, 3)) (hx : rx = some ra) (hsz : aw_sz st ≤ 8)
    (kk : RW Y d (pc + 3) ls st G c) : RW Y d pc ls (vA_ rx :: st) G c := by
  subst hx
  intro r G' e
  obtain ⟨h1, h2⟩ := kk r G' e
  refine ⟨h1, fun p l e R s m args below meth c base D dA ad0 G0 C ad H locs cells slots lsC I => ?_⟩
  obtain ⟨i1, hh, i3, i4, i5, i6, i7, i8⟩ := I
  have hfr := C.2.2.2.2.2.2.2.2.2.2.1
  have hlo := C.2.2.2.2.2.2.2.2.2.2.2.1
  refine W.objInit C.1 C.2.1 C.2.2.2.1 (C.2.2.1 _ hq) (C.2.2.1 _ hin) (C.2.2.1 _ hco) rfl (by rw [C.2.2.2.2.2.2.1]; exact i4.1) rfl hd (by omega) ?_ ?_
  · have := lv_room (m := m) (pc := pc) (ls := lsC) (rest := (vA_ (some ra) :: st).map (aw_cv ad)) (st := st.map (aw_cv ad)) (by rw [aw_sz_cat]; exact hsz)
    omega
  · exact h2 p l e R s m args below meth c base D dA ad0 G0 C ad H locs cells slots lsC ⟨i1, hh, i3, i4, i5, ok_pop i6, i7, i8⟩
end AwVirt
