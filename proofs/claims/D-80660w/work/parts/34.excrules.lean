/-! ===== instructions that throw (printed by gen_excr.py) ===== -/
section AwExr
variable {Y : AwM} {d pc : Nat} {ls : List (Nat × AwV)} {st : List AwV} {G : AwH} {cx c1 c2 : AwC}
theorem rx_if {P : Prop} {hP : Decidable P} {x : Nat} (h1 : P → RX Y d pc ls G x c1) (h2 : ¬ P → RX Y d pc ls G x c2) : RX Y d pc ls G x (if P then c1 else c2) := by
  by_cases e : P
  · rw [if_pos e]; exact h1 e
  · rw [if_neg e]; exact h2 e
theorem vp_ib {i : Int32} {n : Nat} (h : vp_in i n) : ib_ i n = true := decide_eq_true h
theorem ln_lt {a : Nat} : ln_ a < 1024 := Nat.mod_lt _ (by decide)
theorem aw_tx_oob {i : Int32} {n : Nat} {tx : String} (hn : n < 1024) (h : tx = (toString "Index " ++ toString i ++ toString " out of bounds for length " ++ toString n : String)) : aw_tx tx := by
  subst h
  exact ⟨index_text_modelled i n, Nat.le_trans (index_text_bytes i (Nat.lt_trans hn (by decide))) (by decide)⟩
theorem rw_ialoadZ {x : Option Nat} {a : Nat} {i : Int32} (hd : decode Y.2.1 pc = .ok (.iaload, 1)) (hx : x = some a) (ht : tg_ a = 20) (hi : ¬ ib_ i (ln_ a) = true) (k : RX Y d pc ls (th_ G 3 1010) 1 cx) (hd0 : 0 < d := by decide) (hsz : aw_sz st ≤ 20 := by exact Nat.le_of_ble_eq_true rfl) : RW Y d pc ls (vI_ i :: vA_ x :: st) G cx := by
  subst hx
  refine rw_thrM (x := 1) ⟨by decide, by decide⟩ hd0 st hsz ?_ k
  intro p l e R s m args below meth c H locs cells slots lsC Q base D dA ad hx9 hb hts hown hsz9 hT hh hok hN
  obtain ⟨b1, hP, hD, wf, b5⟩ := hh
  have ha : a ∈ gA_ G := aw_in_A (hok (vA_ (some a)) (by simp)) wf (show a % 64 = 20 from ht) (by omega)
  obtain ⟨q0, -, hw⟩ := aw_ws_at (dA := dA) (ad := ad) ha
  rw [aw_en_a (u := 0) ht] at hw
  exact vx_ialdZ hx9 hb hT.1 hP q0 0 hw (aw_tys_at dA rfl) (fun q => hi (vp_ib q)) hd (fun tx htx => hN tx (aw_tx_oob ln_lt htx))
theorem rw_ialoadX {x : Option Nat} {i : Int32} (hd : decode Y.2.1 pc = .ok (.iaload, 1)) (hx : x = none) (k : RX Y d pc ls (th_ G 3 1010) 0 cx) (hsz : aw_sz st ≤ 20 := by exact Nat.le_of_ble_eq_true rfl) : RW Y d pc ls (vI_ i :: vA_ x :: st) G cx := by
  subst hx
  refine rw_thrN st hsz ?_ k
  intro p l e R s m args below meth c H locs cells slots lsC Q base D dA ad hx9 hb hts hown hsz9 hT hh hok hN
  exact vx_ialoadN hx9 hb hd hN
theorem rw_iastoreZ {x : Option Nat} {a : Nat} {i : Int32} {v : Int32} (hd : decode Y.2.1 pc = .ok (.iastore, 1)) (hx : x = some a) (ht : tg_ a = 20) (hi : ¬ ib_ i (ln_ a) = true) (k : RX Y d pc ls (th_ G 3 1010) 1 cx) (hd0 : 0 < d := by decide) (hsz : aw_sz st ≤ 20 := by exact Nat.le_of_ble_eq_true rfl) : RW Y d pc ls (vI_ v :: vI_ i :: vA_ x :: st) G cx := by
  subst hx
  refine rw_thrM (x := 1) ⟨by decide, by decide⟩ hd0 st hsz ?_ k
  intro p l e R s m args below meth c H locs cells slots lsC Q base D dA ad hx9 hb hts hown hsz9 hT hh hok hN
  obtain ⟨b1, hP, hD, wf, b5⟩ := hh
  have ha : a ∈ gA_ G := aw_in_A (hok (vA_ (some a)) (by simp)) wf (show a % 64 = 20 from ht) (by omega)
  obtain ⟨q0, -, hw⟩ := aw_ws_at (dA := dA) (ad := ad) ha
  rw [aw_en_a (u := 0) ht] at hw
  exact vx_iastZ hx9 hb hT.1 hP q0 0 hw (aw_tys_at dA rfl) (fun q => hi (vp_ib q)) hd (fun tx htx => hN tx (aw_tx_oob ln_lt htx))
theorem rw_iastoreX {x : Option Nat} {i : Int32} {v : Int32} (hd : decode Y.2.1 pc = .ok (.iastore, 1)) (hx : x = none) (k : RX Y d pc ls (th_ G 3 1010) 0 cx) (hsz : aw_sz st ≤ 20 := by exact Nat.le_of_ble_eq_true rfl) : RW Y d pc ls (vI_ v :: vI_ i :: vA_ x :: st) G cx := by
  subst hx
  refine rw_thrN st hsz ?_ k
  intro p l e R s m args below meth c H locs cells slots lsC Q base D dA ad hx9 hb hts hown hsz9 hT hh hok hN
  exact vx_iastoreN hx9 hb hd hN
theorem rw_baloadZ {x : Option Nat} {a : Nat} {i : Int32} (hd : decode Y.2.1 pc = .ok (.baload, 1)) (hx : x = some a) (ht : tg_ a = 22) (hi : ¬ ib_ i (ln_ a) = true) (k : RX Y d pc ls (th_ G 3 1010) 1 cx) (hd0 : 0 < d := by decide) (hsz : aw_sz st ≤ 20 := by exact Nat.le_of_ble_eq_true rfl) : RW Y d pc ls (vI_ i :: vA_ x :: st) G cx := by
  subst hx
  refine rw_thrM (x := 1) ⟨by decide, by decide⟩ hd0 st hsz ?_ k
  intro p l e R s m args below meth c H locs cells slots lsC Q base D dA ad hx9 hb hts hown hsz9 hT hh hok hN
  obtain ⟨b1, hP, hD, wf, b5⟩ := hh
  have ha : a ∈ gA_ G := aw_in_A (hok (vA_ (some a)) (by simp)) wf (show a % 64 = 22 from ht) (by omega)
  obtain ⟨q0, -, hw⟩ := aw_ws_at (dA := dA) (ad := ad) ha
  rw [aw_en_a (u := 2) ht] at hw
  exact vx_baldZ hx9 hb hT.1 hP q0 2 hw (aw_tys_at dA rfl) (fun q => hi (vp_ib q)) hd (fun tx htx => hN tx (aw_tx_oob ln_lt htx))
theorem rw_baloadX {x : Option Nat} {i : Int32} (hd : decode Y.2.1 pc = .ok (.baload, 1)) (hx : x = none) (k : RX Y d pc ls (th_ G 3 1010) 0 cx) (hsz : aw_sz st ≤ 20 := by exact Nat.le_of_ble_eq_true rfl) : RW Y d pc ls (vI_ i :: vA_ x :: st) G cx := by
  subst hx
  refine rw_thrN st hsz ?_ k
  intro p l e R s m args below meth c H locs cells slots lsC Q base D dA ad hx9 hb hts hown hsz9 hT hh hok hN
  exact vx_baloadN hx9 hb hd hN
theorem rw_bastoreZ {x : Option Nat} {a : Nat} {i : Int32} {v : Int32} (hd : decode Y.2.1 pc = .ok (.bastore, 1)) (hx : x = some a) (ht : tg_ a = 22) (hi : ¬ ib_ i (ln_ a) = true) (k : RX Y d pc ls (th_ G 3 1010) 1 cx) (hd0 : 0 < d := by decide) (hsz : aw_sz st ≤ 20 := by exact Nat.le_of_ble_eq_true rfl) : RW Y d pc ls (vI_ v :: vI_ i :: vA_ x :: st) G cx := by
  subst hx
  refine rw_thrM (x := 1) ⟨by decide, by decide⟩ hd0 st hsz ?_ k
  intro p l e R s m args below meth c H locs cells slots lsC Q base D dA ad hx9 hb hts hown hsz9 hT hh hok hN
  obtain ⟨b1, hP, hD, wf, b5⟩ := hh
  have ha : a ∈ gA_ G := aw_in_A (hok (vA_ (some a)) (by simp)) wf (show a % 64 = 22 from ht) (by omega)
  obtain ⟨q0, -, hw⟩ := aw_ws_at (dA := dA) (ad := ad) ha
  rw [aw_en_a (u := 2) ht] at hw
  exact vx_bastZ hx9 hb hT.1 hP q0 2 hw (aw_tys_at dA rfl) (fun q => hi (vp_ib q)) hd (fun tx htx => hN tx (aw_tx_oob ln_lt htx))
theorem rw_bastoreX {x : Option Nat} {i : Int32} {v : Int32} (hd : decode Y.2.1 pc = .ok (.bastore, 1)) (hx : x = none) (k : RX Y d pc ls (th_ G 3 1010) 0 cx) (hsz : aw_sz st ≤ 20 := by exact Nat.le_of_ble_eq_true rfl) : RW Y d pc ls (vI_ v :: vI_ i :: vA_ x :: st) G cx := by
  subst hx
  refine rw_thrN st hsz ?_ k
  intro p l e R s m args below meth c H locs cells slots lsC Q base D dA ad hx9 hb hts hown hsz9 hT hh hok hN
  exact vx_bastoreN hx9 hb hd hN
theorem rw_caloadZ {x : Option Nat} {a : Nat} {i : Int32} (hd : decode Y.2.1 pc = .ok (.caload, 1)) (hx : x = some a) (ht : tg_ a = 24) (hi : ¬ ib_ i (ln_ a) = true) (k : RX Y d pc ls (th_ G 3 1010) 1 cx) (hd0 : 0 < d := by decide) (hsz : aw_sz st ≤ 20 := by exact Nat.le_of_ble_eq_true rfl) : RW Y d pc ls (vI_ i :: vA_ x :: st) G cx := by
  subst hx
  refine rw_thrM (x := 1) ⟨by decide, by decide⟩ hd0 st hsz ?_ k
  intro p l e R s m args below meth c H locs cells slots lsC Q base D dA ad hx9 hb hts hown hsz9 hT hh hok hN
  obtain ⟨b1, hP, hD, wf, b5⟩ := hh
  have ha : a ∈ gA_ G := aw_in_A (hok (vA_ (some a)) (by simp)) wf (show a % 64 = 24 from ht) (by omega)
  obtain ⟨q0, -, hw⟩ := aw_ws_at (dA := dA) (ad := ad) ha
  rw [aw_en_a (u := 4) ht] at hw
  exact vx_caldZ hx9 hb hT.1 hP q0 4 hw (aw_tys_at dA rfl) (fun q => hi (vp_ib q)) hd (fun tx htx => hN tx (aw_tx_oob ln_lt htx))
theorem rw_caloadX {x : Option Nat} {i : Int32} (hd : decode Y.2.1 pc = .ok (.caload, 1)) (hx : x = none) (k : RX Y d pc ls (th_ G 3 1010) 0 cx) (hsz : aw_sz st ≤ 20 := by exact Nat.le_of_ble_eq_true rfl) : RW Y d pc ls (vI_ i :: vA_ x :: st) G cx := by
  subst hx
  refine rw_thrN st hsz ?_ k
  intro p l e R s m args below meth c H locs cells slots lsC Q base D dA ad hx9 hb hts hown hsz9 hT hh hok hN
  exact vx_caloadN hx9 hb hd hN
theorem rw_castoreZ {x : Option Nat} {a : Nat} {i : Int32} {v : Int32} (hd : decode Y.2.1 pc = .ok (.castore, 1)) (hx : x = some a) (ht : tg_ a = 24) (hi : ¬ ib_ i (ln_ a) = true) (k : RX Y d pc ls (th_ G 3 1010) 1 cx) (hd0 : 0 < d := by decide) (hsz : aw_sz st ≤ 20 := by exact Nat.le_of_ble_eq_true rfl) : RW Y d pc ls (vI_ v :: vI_ i :: vA_ x :: st) G cx := by
  subst hx
  refine rw_thrM (x := 1) ⟨by decide, by decide⟩ hd0 st hsz ?_ k
  intro p l e R s m args below meth c H locs cells slots lsC Q base D dA ad hx9 hb hts hown hsz9 hT hh hok hN
  obtain ⟨b1, hP, hD, wf, b5⟩ := hh
  have ha : a ∈ gA_ G := aw_in_A (hok (vA_ (some a)) (by simp)) wf (show a % 64 = 24 from ht) (by omega)
  obtain ⟨q0, -, hw⟩ := aw_ws_at (dA := dA) (ad := ad) ha
  rw [aw_en_a (u := 4) ht] at hw
  exact vx_castZ hx9 hb hT.1 hP q0 4 hw (aw_tys_at dA rfl) (fun q => hi (vp_ib q)) hd (fun tx htx => hN tx (aw_tx_oob ln_lt htx))
theorem rw_castoreX {x : Option Nat} {i : Int32} {v : Int32} (hd : decode Y.2.1 pc = .ok (.castore, 1)) (hx : x = none) (k : RX Y d pc ls (th_ G 3 1010) 0 cx) (hsz : aw_sz st ≤ 20 := by exact Nat.le_of_ble_eq_true rfl) : RW Y d pc ls (vI_ v :: vI_ i :: vA_ x :: st) G cx := by
  subst hx
  refine rw_thrN st hsz ?_ k
  intro p l e R s m args below meth c H locs cells slots lsC Q base D dA ad hx9 hb hts hown hsz9 hT hh hok hN
  exact vx_castoreN hx9 hb hd hN
theorem rw_saloadZ {x : Option Nat} {a : Nat} {i : Int32} (hd : decode Y.2.1 pc = .ok (.saload, 1)) (hx : x = some a) (ht : tg_ a = 25) (hi : ¬ ib_ i (ln_ a) = true) (k : RX Y d pc ls (th_ G 3 1010) 1 cx) (hd0 : 0 < d := by decide) (hsz : aw_sz st ≤ 20 := by exact Nat.le_of_ble_eq_true rfl) : RW Y d pc ls (vI_ i :: vA_ x :: st) G cx := by
  subst hx
  refine rw_thrM (x := 1) ⟨by decide, by decide⟩ hd0 st hsz ?_ k
  intro p l e R s m args below meth c H locs cells slots lsC Q base D dA ad hx9 hb hts hown hsz9 hT hh hok hN
  obtain ⟨b1, hP, hD, wf, b5⟩ := hh
  have ha : a ∈ gA_ G := aw_in_A (hok (vA_ (some a)) (by simp)) wf (show a % 64 = 25 from ht) (by omega)
  obtain ⟨q0, -, hw⟩ := aw_ws_at (dA := dA) (ad := ad) ha
  rw [aw_en_a (u := 5) ht] at hw
  exact vx_saldZ hx9 hb hT.1 hP q0 5 hw (aw_tys_at dA rfl) (fun q => hi (vp_ib q)) hd (fun tx htx => hN tx (aw_tx_oob ln_lt htx))
theorem rw_saloadX {x : Option Nat} {i : Int32} (hd : decode Y.2.1 pc = .ok (.saload, 1)) (hx : x = none) (k : RX Y d pc ls (th_ G 3 1010) 0 cx) (hsz : aw_sz st ≤ 20 := by exact Nat.le_of_ble_eq_true rfl) : RW Y d pc ls (vI_ i :: vA_ x :: st) G cx := by
  subst hx
  refine rw_thrN st hsz ?_ k
  intro p l e R s m args below meth c H locs cells slots lsC Q base D dA ad hx9 hb hts hown hsz9 hT hh hok hN
  exact vx_saloadN hx9 hb hd hN
theorem rw_sastoreZ {x : Option Nat} {a : Nat} {i : Int32} {v : Int32} (hd : decode Y.2.1 pc = .ok (.sastore, 1)) (hx : x = some a) (ht : tg_ a = 25) (hi : ¬ ib_ i (ln_ a) = true) (k : RX Y d pc ls (th_ G 3 1010) 1 cx) (hd0 : 0 < d := by decide) (hsz : aw_sz st ≤ 20 := by exact Nat.le_of_ble_eq_true rfl) : RW Y d pc ls (vI_ v :: vI_ i :: vA_ x :: st) G cx := by
  subst hx
  refine rw_thrM (x := 1) ⟨by decide, by decide⟩ hd0 st hsz ?_ k
  intro p l e R s m args below meth c H locs cells slots lsC Q base D dA ad hx9 hb hts hown hsz9 hT hh hok hN
  obtain ⟨b1, hP, hD, wf, b5⟩ := hh
  have ha : a ∈ gA_ G := aw_in_A (hok (vA_ (some a)) (by simp)) wf (show a % 64 = 25 from ht) (by omega)
  obtain ⟨q0, -, hw⟩ := aw_ws_at (dA := dA) (ad := ad) ha
  rw [aw_en_a (u := 5) ht] at hw
  exact vx_sastZ hx9 hb hT.1 hP q0 5 hw (aw_tys_at dA rfl) (fun q => hi (vp_ib q)) hd (fun tx htx => hN tx (aw_tx_oob ln_lt htx))
theorem rw_sastoreX {x : Option Nat} {i : Int32} {v : Int32} (hd : decode Y.2.1 pc = .ok (.sastore, 1)) (hx : x = none) (k : RX Y d pc ls (th_ G 3 1010) 0 cx) (hsz : aw_sz st ≤ 20 := by exact Nat.le_of_ble_eq_true rfl) : RW Y d pc ls (vI_ v :: vI_ i :: vA_ x :: st) G cx := by
  subst hx
  refine rw_thrN st hsz ?_ k
  intro p l e R s m args below meth c H locs cells slots lsC Q base D dA ad hx9 hb hts hown hsz9 hT hh hok hN
  exact vx_sastoreN hx9 hb hd hN
theorem rw_aaloadX {x : Option Nat} {i : Int32} (hd : decode Y.2.1 pc = .ok (.aaload, 1)) (hx : x = none) (k : RX Y d pc ls (th_ G 3 1010) 0 cx) (hsz : aw_sz st ≤ 20 := by exact Nat.le_of_ble_eq_true rfl) : RW Y d pc ls (vI_ i :: vA_ x :: st) G cx := by
  subst hx
  refine rw_thrN st hsz ?_ k
  intro p l e R s m args below meth c H locs cells slots lsC Q base D dA ad hx9 hb hts hown hsz9 hT hh hok hN
  exact vx_aaloadN hx9 hb hd hN
theorem rw_alenX {x : Option Nat} (hd : decode Y.2.1 pc = .ok (.arraylength, 1)) (hx : x = none) (k : RX Y d pc ls (th_ G 3 1010) 0 cx) (hsz : aw_sz st ≤ 20 := by exact Nat.le_of_ble_eq_true rfl) : RW Y d pc ls (vA_ x :: st) G cx := by
  subst hx
  refine rw_thrN st hsz ?_ k
  intro p l e R s m args below meth c H locs cells slots lsC Q base D dA ad hx9 hb hts hown hsz9 hT hh hok hN
  exact vx_arraylengthN hx9 hb hd hN
theorem aw_rf_ref (r : Option Nat) : (va_rf r).isRef = true := by cases r <;> rfl
theorem rw_aastoreX {x y : Option Nat} {i : Int32} (hd : decode Y.2.1 pc = .ok (.aastore, 1)) (hx : x = none) (k : RX Y d pc ls (th_ G 3 1010) 0 cx) (hsz : aw_sz st ≤ 20 := by exact Nat.le_of_ble_eq_true rfl) : RW Y d pc ls (vA_ y :: vI_ i :: vA_ x :: st) G cx := by
  subst hx
  refine rw_thrN st hsz ?_ k
  intro p l e R s m args below meth c H locs cells slots lsC Q base D dA ad hx9 hb hts hown hsz9 hT hh hok hN
  intro T hT2 X
  obtain ⟨t, st2, q⟩ := hN T hT2 X
  exact ⟨t, X.aastoreNull hx9 (g := F0 m pc lsC ((vA_ y :: vI_ i :: vA_ none :: st).map (aw_cv ad))) rfl (v := va_rf (y.map ad)) (aw_rf_ref _) (i := i) (rest := st.map (aw_cv ad)) rfl (by rw [hb]; exact hd) t st2, q⟩
theorem rw_getXN {idx : Nat} {ref nm ds host : String} {k kd a : Nat} {ts : List Nat} {x : Option Nat} (hf : aw_fok ts ref nm ds k kd = true) (t : Nat) (ht : ts.contains t = true) (hq : Cond.fieldLinkNest Y.1.cls idx ref nm ds host ∈ lw_tbl) (hd : decode Y.2.1 pc = .ok (.getfield idx, 3)) (hx : x = none) (kk : RX Y d pc ls (th_ G 3 1010) 0 cx) (hsz : aw_sz st ≤ 20 := by exact Nat.le_of_ble_eq_true rfl) : RW Y d pc ls (vA_ x :: st) G cx := by
  subst hx
  refine rw_thrN st hsz ?_ kk
  intro p l e R s m args below meth c H locs cells slots lsC Q base D dA ad hx9 hb hts hown hsz9 hT hh hok hN
  obtain ⟨q, hc, hk, e1, e2, e3, e4, e5⟩ := aw_fok_at hf ht
  obtain ⟨⟨hin, -⟩, hn⟩ := aw_okt _ _ hc
  exact vx_getfNN (host := host) hx9 hb hts hin hown hT.1 (show aw_cl[t]? = some (q.1, q.2.1, q.2.2) from hc) k hk (by rw [e2, e3]; exact va_Nw.use rfl (hT.2.1 _ hq rfl)) (by rw [e1, e2, e3]; exact fun _ h => h) hd hN
theorem rw_invX {idx L : Nat} {X : MethodName} {b : ByteArray} {r : Option FieldType} {as : List AwV} {x : Option Nat} {st0 : List AwV} (C : String) (hq : Cond.methodLink Y.1.cls idx X ∈ lw_all) (hin : Cond.instanceMethod X ∈ lw_all) (hco : Cond.code X b L r ∈ lw_all) (hse : Cond.selects C X X ∈ lw_all) (hd : decode Y.2.1 pc = .ok (.invokevirtual idx, 3)) (hx : x = none) (hst : st0 = as.reverse ++ vA_ x :: st) (hXx : X.cls ≠ "java/lang/invoke/MethodHandle" ∧ X.cls ≠ "java/lang/invoke/VarHandle") (hlen : (parseMethodDescriptor X.desc).map (fun d => d.parameters.length) = some as.length) (kk : RX Y d pc ls (th_ G 3 1010) 0 cx) (hsz : aw_sz st ≤ 20 := by exact Nat.le_of_ble_eq_true rfl) : RW Y d pc ls st0 G cx := by
  subst hx
  subst hst
  refine rw_thrN st hsz ?_ kk
  intro p l e R s m args below meth c H locs cells slots lsC Q base D dA ad hx9 hb hts hown hsz9 hT hh hok hN
  exact vx_invokeN (C := C) hx9 hb hown (hts _ hq) (hts _ hin) (hts _ hco) (hts _ hse) hXx (As := as.map (aw_cv ad)) (by rw [List.length_map]; exact hlen) hd hN (by rw [List.map_append, List.map_reverse]; rfl)
theorem aw_tx_neg {n : Int32} {tx : String} (hn : n < 0) (h : tx = toString n) : aw_tx tx := by
  subst h
  exact ⟨negative_text_modelled hn, Nat.le_trans (negative_text_bytes n) (by decide)⟩
theorem rw_newarrayX {n : Int32} {atype : ArrayType} (hd : decode Y.2.1 pc = .ok (.newarray atype, 2)) (hn : n < 0) (k : RX Y d pc ls (th_ G 3 1010) 4 cx) (hd0 : 0 < d := by decide) (hsz : aw_sz st ≤ 20 := by exact Nat.le_of_ble_eq_true rfl) : RW Y d pc ls (vI_ n :: st) G cx := by
  refine rw_thrM (x := 4) ⟨by decide, by decide⟩ hd0 st hsz ?_ k
  intro p l e R s m args below meth c H locs cells slots lsC Q base D dA ad hx9 hb hts hown hsz9 hT hh hok hN
  exact vx_newarrayZ hx9 hb hn hd (fun tx htx => hN tx (aw_tx_neg hn htx))
end AwExr
