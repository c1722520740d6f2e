/-! ===== a method's end, its entry; calls ===== -/
theorem aw_X.moved {base : Nat} {D : va_G} {dA : Nat → ClassId} {ad : Nat → Nat} {G : AwH} {s t : State} {H : Heap} (hvm : s.vm.Alike t.vm) (h : aw_hp base D dA ad G s H) : aw_hp base D dA ad G t H :=
  ⟨h.1, h.2.1, h.2.2.1, h.2.2.2.1, va_X.moved hvm h.2.2.2.2.1, h.2.2.2.2.2⟩
section AwEnds
variable {Y : AwM} {d pc : Nat} {ls : List (Nat × AwV)} {st : List AwV} {G : AwH} {c c1 c2 : AwC}
theorem rw_end {v : Option AwV} {st0 : List AwV} (hv : ∀ x, v = some x → x ∈ st0)
    (hW : ∀ (p : Program) (l : Launch) (e : Env) (R : Room) (s : State) (m : MethodId) (args : Array Value) (below : List Frame) (meth : Method) (c : Code) (H : Heap) (locs : List Loc) (cells slots : Nat) (lsC : Array Slot) (ad : Nat → Nat) (Qc : Array Value → State → Outcome → State → Prop) (free : Addr → Prop),
      p.tables.exec = Jvm.exec → c.code = Y.2.1 → meth.sig.returnType = Y.2.2.2.1 → meth.locks = false → (∀ t : State, t.heap = H → s.WarmedH t.vm → Qc args s (.returned (v.map (aw_cv ad))) t) → (∀ q ∈ locs, free q.base) →
      W p l e R s m args below meth c H locs cells slots (MQ below Qc args s cells slots free) (F0 m pc lsC (st0.map (aw_cv ad)))) : RW Y d pc ls st0 G (some (.inl v, G)) := by
  intro r G' e
  cases e
  refine ⟨aw_mo.rf, fun p l e R s m args below meth c base D dA ad0 G0 C ad H locs cells slots lsC I => ?_⟩
  obtain ⟨i1, hh, i3, i4, i5, i6, i7, i8⟩ := I
  refine W.widen (k := gC_ G - gC_ G0) (n := gS_ G - gS_ G0) (by omega) (by omega) ?_
  refine vx_ret ?_
  refine hW p l e R s m args below meth c H locs _ _ lsC ad _ _ C.1 C.2.1 C.2.2.2.2.2.1 C.2.2.2.2.1 (fun t ht hWm => ⟨⟨ad, v, rfl, rfl, i1, ?_, fun x hx => i6 x (hv x hx)⟩, i3.F ht⟩) i3.2.2
  rw [ht]
  exact aw_X.moved hWm.alike hh
theorem rw_iret {x : Int32} (hr : Y.2.2.2.1 = some .int) (hd : decode Y.2.1 pc = .ok (.ireturn, 1)) : RW Y d pc ls [vI_ x] G (rI_ x G) := by
  refine rw_end (v := some (vI_ x)) (by intro y h; cases h; simp) ?_
  intro p l e R s m args below meth c H locs cells slots lsC ad Qc free hx hb hret hlk hq hf
  exact W.iret (v := x) hx hb (hret.trans hr) hq hf hd hlk
theorem rw_zret {x : Int32} (h01 : x = 0 ∨ x = 1) (hr : Y.2.2.2.1 = some .boolean) (hd : decode Y.2.1 pc = .ok (.ireturn, 1)) : RW Y d pc ls [vI_ x] G (rI_ x G) := by
  refine rw_end (v := some (vI_ x)) (by intro y h; cases h; simp) ?_
  intro p l e R s m args below meth c H locs cells slots lsC ad Qc free hx hb hret hlk hq hf
  exact W.zret (v := x) (ty := .boolean) hx hb (hret.trans hr) (by rcases h01 with h | h <;> rw [h] <;> rfl) hq hf hd hlk
theorem rw_lret {x : Int64} (hr : Y.2.2.2.1 = some .long) (hd : decode Y.2.1 pc = .ok (.lreturn, 1)) : RW Y d pc ls [vL_ x] G (rL_ x G) := by
  refine rw_end (v := some (vL_ x)) (by intro y h; cases h; simp) ?_
  intro p l e R s m args below meth c H locs cells slots lsC ad Qc free hx hb hret hlk hq hf
  exact W.lret (v := x) hx hb (hret.trans hr) hq hf hd hlk
theorem rw_aret {x : Option Nat} {rt : FieldType} (hr : Y.2.2.2.1 = some rt) (hk : aw_kd rt = 2) (hd : decode Y.2.1 pc = .ok (.areturn, 1)) : RW Y d pc ls [vA_ x] G (rA_ x G) := by
  refine rw_end (v := some (vA_ x)) (by intro y h; cases h; simp) ?_
  intro p l e R s m args below meth c H locs cells slots lsC ad Qc free hx hb hret hlk hq hf
  exact W.aret (v := va_rf (x.map ad)) (rt := rt) hx hb (hret.trans hr) (by cases rt <;> first | exact Or.inl ⟨_, rfl⟩ | exact Or.inr ⟨_, rfl⟩ | cases hk) (by cases x; exact Or.inl rfl; exact Or.inr ⟨_, rfl⟩) hq hf hd hlk
theorem rw_vret (hr : Y.2.2.2.1 = none) (hd : decode Y.2.1 pc = .ok (.return_, 1)) : RW Y d pc ls [] G (rV_ G) := by
  refine rw_end (v := none) (by intro y h; cases h) ?_
  intro p l e R s m args below meth c H locs cells slots lsC ad Qc free hx hb hret hlk hq hf
  exact W.vret hx hb (hret.trans hr) hq hf hd hlk
end AwEnds
def aw_args : Nat → List AwV → List (Nat × AwV)
  | _, [] => []
  | i, v :: vs => (i, v) :: aw_args (if aw_s2 v = true then i + 2 else i + 1) vs
def aw_sz : List AwV → Nat
  | [] => 0
  | v :: vs => (if aw_s2 v = true then 2 else 1) + aw_sz vs
theorem aw_args_map (ad : Nat → Nat) : ∀ (i : Nat) (vs : List AwV), lv_args i (vs.map (aw_cv ad)) = (aw_args i vs).map fun q => (q.1, aw_cv ad q.2)
  | _, [] => rfl
  | i, v :: vs => by
    rw [List.map_cons, lv_args, aw_args, List.map_cons]
    congr 1
    rw [aw_args_map ad]
    have h := aw_cat ad v
    by_cases q : aw_s2 v = true
    · rw [if_pos q, if_pos (by rw [q] at h; exact beq_iff_eq.mp h)]
    · rw [if_neg q, if_neg (fun z => q (by rw [← h]; exact beq_iff_eq.mpr z))]
theorem aw_sz_sl (ad : Nat → Nat) : ∀ (vs : List AwV), (lg_sl (vs.map (aw_cv ad))).length = aw_sz vs
  | [] => rfl
  | v :: vs => by
    have ih := aw_sz_sl ad vs
    unfold lg_sl at ih ⊢
    rw [List.map_cons, List.flatMap_cons, List.length_append, ih, aw_sz]
    congr 1
    have h := aw_cat ad v
    by_cases q : aw_s2 v = true
    · rw [if_pos q, if_pos (by rw [q] at h; exact beq_iff_eq.mp h)]; rfl
    · rw [if_neg q, if_neg (fun z => q (by rw [← h]; exact beq_iff_eq.mpr z))]; rfl
theorem aw_sz_cat (ad : Nat → Nat) : ∀ (vs : List AwV), ((vs.map (aw_cv ad)).map fun v => v.category).sum = aw_sz vs
  | [] => rfl
  | v :: vs => by
    have ih := aw_sz_cat ad vs
    rw [List.map_cons, List.map_cons, List.sum_cons, ih, aw_sz]
    congr 1
    have h := aw_cat ad v
    by_cases q : aw_s2 v = true
    · rw [if_pos q]; rw [q] at h; exact beq_iff_eq.mp h
    · rw [if_neg q]; exact aw_c1 ad (by simpa using q)
theorem aw_args_in : ∀ (i : Nat) (vs : List AwV), ∀ q ∈ aw_args i vs, q.2 ∈ vs
  | _, [], q, h => by cases h
  | i, v :: vs, q, h => by
    rcases List.mem_cons.mp h with h | h
    · rw [h]; exact List.mem_cons_self
    · exact List.mem_cons_of_mem _ (aw_args_in _ vs q h)
section AwEntry
variable {Y : AwM} {d : Nat} {vs : List AwV} {G : AwH} {c : AwC}
theorem aw_body {r : AwR} {G' : AwH} (hsz : aw_sz vs ≤ Y.2.2.1) (hm : aw_mo G G') (hw : AW Y d 0 (aw_args 0 vs) [] G r G') {l : Launch} {base : Nat} {D : va_G} {dA : Nat → ClassId} {ad : Nat → Nat} (hl : l.stackTraces = false) {ws : List Cond} (hws : ∀ w ∈ lw_all, w ∈ ws)
    {p : Program} {e : Env} {s : State} {m : MethodId} {args : Array Value} {below : List Frame} {meth : Method} {c : Code} {s₁ : State} (B : BodyLoose p l Y.1 (headSpec ws (aw_rm d (gC_ G' - gC_ G) (gS_ G' - gS_ G))) Y.2.1 Y.2.2.1 Y.2.2.2.1 e s m args below meth c s₁) (hml : c.maxLocals = Y.2.2.1) (htab : c.exceptionTable.toList = tableOf Y.2.2.2.2)
    (hv : va_Pc (vs.map (aw_cv ad)) (aw_B base D dA ad G vs) args s) :
    W p l e (aw_rm d (gC_ G' - gC_ G) (gS_ G' - gS_ G)) s m args below meth c s.heap [] 0 0 (aw_PQ below base D dA ad G r G' args s) (entryFrame m args Y.2.2.1) := by
  obtain ⟨rfl, hT, hZ, hh, hok⟩ := hv
  rw [lg_entry_eq]
  have hts := atoms_spec (ws := ws) B.pre
  have hlv := lv_entry (vs.map (aw_cv ad)) (n := Y.2.2.1) (by rw [aw_sz_sl]; exact hsz)
  rw [aw_args_map] at hlv
  exact hw p l e _ s m _ below meth c base D dA ad G ⟨B.exec, B.bytes, fun w h => hts w (hws w h), findClass_of_methodNamed B.named, B.notSynchronized, B.returns, hml, htab, (name_of_methodNamed B.named B.method).1, hl, Nat.le_refl _, Nat.le_refl _, Nat.le_refl _, Nat.le_refl _, hT, hZ, hh.1⟩ ad s.heap [] 0 0 _
    ⟨⟨fun a h => ⟨rfl, h⟩, rfl, rfl⟩, hh, va_S.rf, hlv, fun q hq => hok _ (aw_args_in _ _ q hq), fun v h => (by cases h), by omega, by omega⟩
theorem rm_of (hh : Y.2.2.2.2 = []) (hpl : plainName Y.1.cls = true) (hsz : aw_sz vs ≤ Y.2.2.1) (hk : RW Y d 0 (aw_args 0 vs) [] G c) : RM Y d vs G c := by
  intro r G' e
  obtain ⟨h1, h2⟩ := hk r G' e
  refine ⟨h1, fun l base D dA ad hl => ?_⟩
  have hwd : aw_wd Y = ws_ Y.1 Y.2.1 Y.2.2.1 Y.2.2.2.1 := by unfold aw_wd; rw [hh]
  rw [hwd]
  refine vx_ofW (cc := Y.2.1) (maxL := Y.2.2.1) (ret := Y.2.2.2.1) hpl rfl ?_
  intro p e s m args below meth c s₁ B hml ht hv
  refine aw_body hsz h1 h2 hl (fun w h => List.mem_cons_of_mem _ h) B hml ?_ hv
  rw [hh]
  cases hq : c.exceptionTable.toList with
  | nil => rfl
  | cons x xs => exact absurd (ht x (by rw [hq]; exact List.mem_cons_self)) id
theorem rm_ofH {h0 : Nat × Nat × Nat × Nat} {hs : List (Nat × Nat × Nat × Nat)} (hh : Y.2.2.2.2 = h0 :: hs) (hpl : plainName Y.1.cls = true) (hsz : aw_sz vs ≤ Y.2.2.1) (hk : RW Y d 0 (aw_args 0 vs) [] G c) : RM Y d vs G c := by
  intro r G' e
  obtain ⟨h1, h2⟩ := hk r G' e
  refine ⟨h1, fun l base D dA ad hl => ?_⟩
  have hwd : aw_wd Y = wsW_ Y.1 Y.2.1 Y.2.2.1 Y.2.2.2.1 Y.2.2.2.2 := by unfold aw_wd; rw [hh]
  rw [hwd]
  refine vx_ofWH (cc := Y.2.1) (maxL := Y.2.2.1) (ret := Y.2.2.2.1) (hh := Y.2.2.2.2) hpl rfl ?_
  intro p e s m args below meth c s₁ B hml hv
  refine aw_body hsz h1 h2 hl (fun w h => List.mem_cons_of_mem _ h) B hml ?_ hv
  exact vx_table (x := Y.1) (y := Y.1) B (atoms_spec (ws := wsW_ Y.1 Y.2.1 Y.2.2.1 Y.2.2.2.1 Y.2.2.2.2) B.pre _ List.mem_cons_self)
end AwEntry
/-- a call from the frame g, to the place pc' behind it -/
def aw_Run (p : Program) (l : Launch) (e : Env) (R : Room) (s : State) (m : MethodId) (args : Array Value) (below : List Frame) (meth : Method) (c : Code) (H : Heap) (locs : List Loc) (cells slots mc ms : Nat) (g : JFrame) (pc' : Nat) (rest : List Value) (Qa : State → Outcome → State → Prop) (XC : String → State → State → Prop) (free : Addr → Prop) : Prop :=
  ∀ T : State, T.heap = H → Stand p l e R s m args below meth c T locs cells slots →
    (∃ (v : Option Value) (st₀ t T' : State) (L : List Loc), st₀.heap = H ∧ Stand p l e R s m args below meth c T' (locs ++ L) (cells + mc) (slots + ms) ∧ (∀ q ∈ L, free q.base) ∧ T'.heap = t.heap ∧ T'.vm = t.vm ∧ Qa st₀ (.returned v) t ∧
      Goes p e below T g T' { g with pc := pc', stack := v.toList ++ rest }) ∨
    (∃ (q : Addr) (st₀ t T' : State) (L : List Loc) (E : String) (ce : Cell), st₀.heap = H ∧ Stand p l e R s m args below meth c T' (locs ++ L) (cells + mc) (slots + ms) ∧ (∀ z ∈ L, free z.base) ∧ T'.heap = t.heap ∧ T'.vm = t.vm ∧ XC E st₀ t ∧ t.heap[q]? = some ce ∧ ce.vm = .none ∧ s.vm.findClass E = some ce.cls ∧
      Steps p.tables e below (T.setTop g) ((T'.setTop { g with stack := rest }).pushFrame (.throwing q)))
section AwCall
variable {Y : AwM} {d pc : Nat} {ls : List (Nat × AwV)} {st : List AwV} {G : AwH} {c c1 c2 : AwC}
theorem aw_cv_ext {ad ad' : Nat → Nat} {G1 : AwH} (hx : aw_ext G ad ad' G1) {v : AwV} (h : aw_ok G v) : aw_cv ad' v = aw_cv ad v ∧ aw_ok G1 v := by
  rcases v with x | x | x
  · exact ⟨rfl, trivial⟩
  · exact ⟨rfl, trivial⟩
  · cases x with
    | none => exact ⟨rfl, trivial⟩
    | some b =>
      rcases h with h | h
      · exact ⟨by show Value.ref _ = Value.ref _; rw [(hx.1 b h).1], Or.inl (hx.1 b h).2⟩
      · exact ⟨by show Value.ref _ = Value.ref _; rw [h, hx.2.1], Or.inr (by rw [hx.2.2, h])⟩
theorem rw_callC {Y' : AwM} {d' pc' : Nat} {vs st0 : List AwV} {c' : AwC} {kc : AwC → AwC} (hM : RM Y' d' vs G c')
    (hRun : ∀ (p : Program) (l : Launch) (e : Env) (R : Room) (s : State) (m : MethodId) (args : Array Value) (below : List Frame) (meth : Method) (c : Code) (H : Heap) (locs : List Loc) (cells slots mc ms : Nat) (lsC : Array Slot) (base : Nat) (D : va_G) (dA : Nat → ClassId) (ad : Nat → Nat) (Qc : Array Value → State → Outcome → State → Prop) (XC : String → State → State → Prop),
      p.tables.exec = Jvm.exec → c.code = Y.2.1 → c.maxLocals = Y.2.2.1 → lsC.size = Y.2.2.1 → (∀ w ∈ lw_all, w.before args s = true) → s.vm.findClass Y.1.cls = some m.cls → aw_T D dA s → aw_hp base D dA ad G s H → (∀ v ∈ st0, aw_ok G v) → d + 8 ≤ R.frames → 40 * d + 10300 ≤ R.locals → cells + mc ≤ R.cells → slots + ms ≤ R.slots →
      vx_Met l Y'.1 (aw_wd Y') (aw_rm d' mc ms) (va_Pc (vs.map (aw_cv ad)) (aw_B base D dA ad G vs)) Qc XC mc ms (fun q => base ≤ q) → FrameBlind (va_Pc (vs.map (aw_cv ad)) (aw_B base D dA ad G vs)) → (∀ U : State, U.heap = H → s.WarmedH U.vm → va_Pc (vs.map (aw_cv ad)) (aw_B base D dA ad G vs) (vs.map (aw_cv ad)).toArray U) →
      aw_Run p l e R s m args below meth c H locs cells slots mc ms (F0 m pc lsC (st0.map (aw_cv ad))) pc' (st.map (aw_cv ad)) (Qc (vs.map (aw_cv ad)).toArray) XC (fun q => base ≤ q))
    (hvs : ∀ v ∈ vs, v ∈ st0) (hst : ∀ v ∈ st, v ∈ st0) (kn : kc none = none)
    (kk : ∀ v G1, c' = some (.inl v, G1) → RW Y d pc' ls (v.toList ++ st) G1 (kc (some (.inl v, G1))))
    (kx : ∀ e G1, c' = some (.inr e, G1) → RX Y d pc ls G1 e (kc (some (.inr e, G1)))) : RW Y d pc ls st0 G (kc c') := by
  intro r G' e
  cases hc' : c' with
  | none => rw [hc', kn] at e; cases e
  | some z =>
    obtain ⟨r1, G1⟩ := z
    obtain ⟨m1, hAM⟩ := hM r1 G1 hc'
    have main : aw_mo G1 G' ∧ (∀ v, r1 = .inl v → AW Y d pc' ls (v.toList ++ st) G1 r G') ∧ (∀ x, r1 = .inr x → AX Y d pc ls G1 x r G') := by
      rw [hc'] at e
      rcases r1 with v | x
      · obtain ⟨h1, h2⟩ := kk v G1 hc' r G' e
        exact ⟨h1, fun v' hv' => by cases hv'; exact h2, fun x hx => nomatch hx⟩
      · obtain ⟨h1, h2⟩ := kx x G1 hc' r G' e
        exact ⟨h1, fun v' hv' => (nomatch hv'), fun x' hx => by cases hx; exact h2⟩
    obtain ⟨m2, hV, hX⟩ := main
    refine ⟨m1.tr m2, fun p l e R s m args below meth c base D dA ad0 G0 C ad H locs cells slots lsC I => ?_⟩
    obtain ⟨i1, hh, i3, i4, i5, i6, i7, i8⟩ := I
    obtain ⟨x1, x2, x3, x4, x5, x6, x7, x8, x9, x10, x11, x12, x13, x14, x15, x16, x17⟩ := C
    have hpre : ∀ U : State, U.heap = H → s.WarmedH U.vm → va_Pc (vs.map (aw_cv ad)) (aw_B base D dA ad G vs) (vs.map (aw_cv ad)).toArray U := by
      intro U hU hWm
      refine ⟨rfl, x15.warm hWm, ?_, ?_, fun v hv => i6 v (hvs v hv)⟩
      · rw [hU]
        exact ⟨vx_Zq.moved hWm.alike (x16.1.kept i3.2.1), vx_Zq.moved hWm.alike (x16.2.kept i3.2.1)⟩
      · rw [hU]
        exact aw_X.moved hWm.alike hh
    have hbl : FrameBlind (va_Pc (vs.map (aw_cv ad)) (aw_B base D dA ad G vs)) := by
      intro a U g mk q
      obtain ⟨q0, q1, q2, q3, q4⟩ := q
      exact ⟨q0, q1.warm (U := U.calling g mk a) (State.WarmedH.refl U), ⟨vx_Zq.moved (Vm.Alike.refl U.vm) q2.1, vx_Zq.moved (Vm.Alike.refl U.vm) q2.2⟩, aw_X.moved (Vm.Alike.refl U.vm) q3, q4⟩
    have a1 := m1.1
    have a2 := m1.2.1
    have a3 := m2.1
    have a4 := m2.2.1
    have hrun := hRun p l e R s m args below meth c H locs cells slots (gC_ G1 - gC_ G) (gS_ G1 - gS_ G) lsC base D dA ad _ _ x1 x2 x7 i4.1 x3 x4 x15 hh i6 x11 x12 (by omega) (by omega) (hAM l base D dA ad x10) hbl hpre
    intro T hT X
    rcases hrun T hT X with ⟨v, st₀, t, T', L, h0, X', hL, e1, e2, ⟨⟨ad', v', hr1, ho, hx, hh1, hvo⟩, hF⟩, stp⟩ | ⟨q, st₀, t, T', L, E, ce, h0, X', hL, e1, e2, ⟨⟨ad', x, hr1, hE, hx, hh1⟩, hF⟩, hce, hcv, hcl, stp⟩
    · obtain ⟨k1, k2, k3⟩ := vx_keep h0 e1 i3 (A1 := fun q => base ≤ q) (fun q _ h => h) (fun q h => h) hL hF
      cases ho
      have hal : s.vm.Alike t.vm := by rw [← e2]; exact X'.warmed.alike
      have hh2 : aw_hp base D dA ad' G1 s T'.heap := by rw [e1]; exact aw_X.moved hal.symm hh1
      have h9 := hV v' hr1 p l e R s m args below meth c base D dA ad0 G0 ⟨x1, x2, x3, x4, x5, x6, x7, x8, x9, x10, x11, x12, x13, x14, x15, x16, x17⟩ ad' T'.heap (locs ++ L) (cells + (gC_ G1 - gC_ G)) (slots + (gS_ G1 - gS_ G)) lsC ⟨?_, hh2, k3, ?_, fun z hz => (aw_cv_ext hx (i5 z hz)).2, ?_, by omega, by omega⟩
      · have e9 : ((v'.toList ++ st).map (aw_cv ad')) = (v'.map (aw_cv ad')).toList ++ st.map (aw_cv ad) := by
          rw [List.map_append]
          congr 1
          · cases v' <;> rfl
          · exact List.map_congr_left (fun z hz => (aw_cv_ext hx (i6 z (hst z hz))).1)
        rw [e9] at h9
        obtain ⟨t2, b1, b2⟩ := h9 T' rfl X'
        exact ⟨t2, stp t2 b1, b2⟩
      · refine ⟨fun a ha => ?_, ?_, ?_⟩
        · obtain ⟨y1, y2⟩ := i1.1 a ha
          obtain ⟨y3, y4⟩ := hx.1 a y2
          exact ⟨y3.trans y1, y4⟩
        · rw [← i1.2.1, ← i1.2.2]; exact hx.2.1
        · exact hx.2.2.trans i1.2.2
      · rw [show (ls.map fun q9 => (q9.1, aw_cv ad' q9.2)) = ls.map fun q9 => (q9.1, aw_cv ad q9.2) from List.map_congr_left (fun z hz => by rw [(aw_cv_ext hx (i5 z hz)).1])]
        exact i4
      · intro w hw
        rcases List.mem_append.mp hw with h | h
        · exact hvo w (by cases v' with
            | none => cases h
            | some y => rw [List.mem_singleton.mp h])
        · exact (aw_cv_ext hx (i6 w (hst w h))).2
    · obtain ⟨k1, k2, k3⟩ := vx_keep h0 e1 i3 (A1 := fun q => base ≤ q) (fun q _ h => h) (fun q h => h) hL hF
      have hal : s.vm.Alike t.vm := by rw [← e2]; exact X'.warmed.alike
      have hh2 : aw_hp base D dA ad' G1 s T'.heap := by rw [e1]; exact aw_X.moved hal.symm hh1
      have h9 := hX x hr1 p l e R s m args below meth c base D dA ad0 G0 ⟨x1, x2, x3, x4, x5, x6, x7, x8, x9, x10, x11, x12, x13, x14, x15, x16, x17⟩ ad' T'.heap (locs ++ L) (cells + (gC_ G1 - gC_ G)) (slots + (gS_ G1 - gS_ G)) lsC (st.map (aw_cv ad)) q ce ⟨?_, hh2, k3, ?_, fun z hz => (aw_cv_ext hx (i5 z hz)).2, fun w h => (by cases h), by omega, by omega⟩ (by rw [e1]; exact hce) hcv (by rw [← hE]; exact hcl)
      · obtain ⟨t2, b1, b2⟩ := h9 T' rfl X'
        exact ⟨t2, stp.trans b1, b2⟩
      · refine ⟨fun a ha => ?_, ?_, ?_⟩
        · obtain ⟨y1, y2⟩ := i1.1 a ha
          obtain ⟨y3, y4⟩ := hx.1 a y2
          exact ⟨y3.trans y1, y4⟩
        · rw [← i1.2.1, ← i1.2.2]; exact hx.2.1
        · exact hx.2.2.trans i1.2.2
      · rw [show (ls.map fun q9 => (q9.1, aw_cv ad' q9.2)) = ls.map fun q9 => (q9.1, aw_cv ad q9.2) from List.map_congr_left (fun z hz => by rw [(aw_cv_ext hx (i5 z hz)).1])]
        exact i4
end AwCall
