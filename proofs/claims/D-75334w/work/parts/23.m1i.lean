theorem inB_n {a lo hi : Nat} (h1 : a < 2 ^ 31) (h2 : lo < 2 ^ 31) (h3 : hi < 2 ^ 31) : inB (nI a) (nI lo) (nI hi) = (decide (lo ≤ a) && decide (a ≤ hi)) := by
  unfold inB
  congr 1
  · exact decide_eq_decide.mpr (nI_leI h2 h1)
  · exact decide_eq_decide.mpr (nI_leI h1 h3)
theorem ws_cases (p q r : Nat) (Ms : Nat → MV) (t a : Int32) : wsX p q r Ms t a = nI 0 ∨ wsX p q r Ms t a = nI 1 ∨ wsX p q r Ms t a = nI 2 := by
  unfold wsX
  repeat' split
  · exact Or.inr (Or.inl rfl)
  · exact Or.inl rfl
  · exact Or.inr (Or.inr rfl)
theorem ws_0 {p q r : Nat} {Ms : Nat → MV} {t a : Int32} (h : wsX p q r Ms t a ≤ 0) : wsX p q r Ms t a = nI 0 := by
  rcases ws_cases p q r Ms t a with e | e | e
  · exact e
  · rw [e] at h; exact absurd h (by decide)
  · rw [e] at h; exact absurd h (by decide)
theorem ws_n {p q r : Nat} {Ms : Nat → MV} {t a : Int32} (h : ¬ wsX p q r Ms t a ≤ 0) : wsX p q r Ms t a ≠ nI 0 := fun e => h (by rw [e]; decide)
theorem ws_ok {p q r : Nat} {Ms : Nat → MV} {t a : Int32} (h : wsX p q r Ms t a = nI 0) : rgB t = true ∧ rgB a = true ∧ wsB p q r (Ms (rg a)) = true := by
  unfold wsX at h
  split at h
  · exact absurd h (by decide)
  · split at h
    · rename_i h1 h2
      have h3 : (rgB t && rgB a) = true := by simpa using h1
      rw [Bool.and_eq_true] at h3
      exact ⟨h3.1, h3.2, h2⟩
    · exact absurd h (by decide)
theorem ws_s {p q r : Nat} {M : MV} (h : wsB p q r M = true) : cfB p q r = true ∧ twW p M ≠ 0 := by
  unfold wsB at h
  simp only [Bool.and_eq_true, decide_eq_true_iff] at h
  exact ⟨h.1.1, h.2⟩
theorem pk0_le {p q r : Nat} : pk0 p q r ≤ 3 := by
  unfold pk0; split
  · rename_i h
    have := cf_p h
    omega
  · exact Nat.le_refl _
theorem pt_all {p q r : Nat} {x y z d : Int32} (h : ptB p q r x y z d = true) : coB x = true ∧ coB y = true ∧ coB z = true ∧ inB d (nI 1) (nI 100) = true := by
  unfold ptB at h
  simp only [Bool.and_eq_true] at h
  exact ⟨h.1.1.1.1, h.1.1.1.2, h.1.1.2, h.1.2⟩
theorem co_bd {v : Int32} (h : coB v = true) : -1000 ≤ v.toInt64.toInt ∧ v.toInt64.toInt ≤ 1000 := by
  unfold coB inB at h
  rw [Bool.and_eq_true, decide_eq_true_iff, decide_eq_true_iff, Int32.le_iff_toInt_le, Int32.le_iff_toInt_le, nI_toInt (by decide), show (-1000 : Int32).toInt = -1000 from by decide] at h
  rw [i2l_toInt]; omega
theorem pt_d {p q r : Nat} {x y z d : Int32} (h : ptB p q r x y z d = true) : 0 < d.toInt64.toInt ∧ d.toInt64.toInt ≤ 100 := by
  have h1 := (pt_all h).2.2.2
  unfold inB at h1
  rw [Bool.and_eq_true, decide_eq_true_iff, decide_eq_true_iff, Int32.le_iff_toInt_le, Int32.le_iff_toInt_le, nI_toInt (by decide), nI_toInt (by decide)] at h1
  rw [i2l_toInt]; omega
theorem pt_mu {d : Int32} (h : 0 < d.toInt64.toInt ∧ d.toInt64.toInt ≤ 100) : 0 < (d.toInt64 * d.toInt64).toInt := by
  have h1 := mul_b (x := d.toInt64) (y := d.toInt64) (A := 100) (B := 100) (by omega) (by omega) (by decide)
  rw [h1.1]; exact Int.mul_pos h.1 h.1
theorem coV_bd {x y z : Int32} (hx : coB x = true) (hy : coB y = true) (hz : coB z = true) (k : Nat) : -1000 ≤ (coV k x y z).toInt64.toInt ∧ (coV k x y z).toInt64.toInt ≤ 1000 := by
  unfold coV
  split
  · exact co_bd hx
  · split
    · exact co_bd hy
    · exact co_bd hz
theorem ptQ_bd {x y z : Int32} (hx : coB x = true) (hy : coB y = true) (hz : coB z = true) : ∀ k : Nat, k ≤ 5 → -((k : Int) * 1000000) ≤ (ptQ x y z k).toInt ∧ (ptQ x y z k).toInt ≤ (k : Int) * 1000000
  | 0, _ => by show _ ≤ (0 : Int64).toInt ∧ (0 : Int64).toInt ≤ _; simp
  | k + 1, h => by
    have h1 := ptQ_bd hx hy hz k (by omega)
    have h2 := mul_b (A := 1000) (B := 1000) (coV_bd hx hy hz k) (coV_bd hx hy hz k) (by decide)
    have h4 := add_b h1 h2.2 (by omega)
    show _ ≤ (ptQ x y z k + (coV k x y z).toInt64 * (coV k x y z).toInt64).toInt ∧ (ptQ x y z k + (coV k x y z).toInt64 * (coV k x y z).toInt64).toInt ≤ _
    omega
theorem ptR_nm {p q r : Nat} {x y z d : Int32} (h : ptB p q r x y z d = true) (hp : p ≤ 5) (j : Nat) : ptR p x y z d j ≠ Int64.minValue := by
  obtain ⟨hx, hy, hz, -⟩ := pt_all h
  have hd := pt_d h
  have h1 := ptQ_bd hx hy hz (p - 1) (by omega)
  have h2 := mul_b (x := d.toInt64) (y := d.toInt64) (A := 100) (B := 100) (by omega) (by omega) (by decide)
  unfold ptR vp_updL
  split
  · exact ne_min_of (add_b (A := 5000000) (by omega) h2.2 (by decide)).2 (by decide)
  · split
    · refine ne_min_of (B := 6000000) ?_ (by decide)
      rw [Int64.toInt_sub, bm64 (by omega)]
      omega
    · refine pv_nm (fun k _ => ?_) j
      have h3 := mul_b (x := 2) (y := (coV k x y z).toInt64) (A := 2) (B := 1000) (by decide) (coV_bd hx hy hz k) (by decide)
      exact ne_min_of (mul_b (A := 2 * 1000) (B := 100) h3.2 (y := d.toInt64) (by omega) (by decide)).2 (by decide)
set_option maxHeartbeats 4000000 in
theorem x7_isConformal {l : Launch} {dC : Nat → ClassId} {dI : Nat → Nat → Nat} {dA : Nat → ClassId} {s0 : State} {b0 : Addr} (Z : Z0 l dC dI dA s0 b0) (o : Nat → Nat) (th : Int32) (p0 q0 r0 : Nat) (mu : Int64) (zz : Nat → Int32) (hn : p0 + q0 + r0 ≤ 5) : Met l yX7_isConformal (ws_ yX7_isConformal cX7_isConformal 1 (some .boolean)) ({ frames := 2, cells := 0, slots := 0, locals := 120 } : Room) (gP [.ref (o 0)] s0 (fun _ => False) (fun H => va_P (dC, dI) vwCl [(o 0, .inr (2, mFs o th p0 q0 r0 mu zz))] H)) (vp_Si (fun r => r = bI (cfB p0 q0 r0))) 0 0 (fun _ => False) := by
  refine Met.ofW (cc := cX7_isConformal) (maxL := 1) (ret := (some .boolean)) (by decide) rfl ?_
  intro p e s m args below meth c s₁ B hml hv
  obtain ⟨hav, hG, hP⟩ := hv
  have hx := B.exec
  have hb := B.bytes
  have hr := B.returns
  have hts := atoms_spec (ws := (ws_ yX7_isConformal cX7_isConformal 1 (some .boolean))) B.pre
  have hts : ∀ w ∈ lw_all, w.before _ s = true := fun w h => hts w (List.mem_cons_of_mem _ h)
  have hown : s.vm.findClass RX7 = some m.cls := findClass_of_methodNamed B.named
  have hlocks := B.notSynchronized
  have hK := hG.K Z
  have hS : va_S (fun _ => False) s.heap s.heap [] := va_S.rf
  have hl := lv_entry ([.ref (o 0)]) (n := 1) (Nat.le_of_ble_eq_true rfl)
  rw [show entryFrame m args 1 = entryFrame m ([.ref (o 0)] : List Value).toArray 1 from by rw [hav], lg_entry_eq]
  generalize (lg_sl ([.ref (o 0)]) ++ List.replicate (1 - (lg_sl ([.ref (o 0)])).length) Slot.unset).toArray = ls at hl ⊢
  have hl : lv_has ls 1 [(0, .ref (o 0))] := hl
  generalize hQe : MQ below _ _ s _ _ _ = Q
  change W p l e ({ frames := 2, cells := 0, slots := 0, locals := 120 } : Room) s m args below meth c s.heap [] 0 0 Q (F0 m 0 ls [])
  refine lv_aload_n hx hb dX7_isConformal_0 rfl (lv_at hl 0 rfl) ?_
  refine va_get (D := (dC, dI)) (ci := 2) (v := .int (nI q0)) (C := RX7) (T := TX7) (N := 27) hx hb hts in_X7 hown hK hP 0 rfl rfl 2 (by decide) (hts _ q2008) (fun _ h9 => h9) rfl dX7_isConformal_1 ?_
  refine lv_iconst (v := nI 1) hx hb dX7_isConformal_4 (by decide) ?_
  refine lv_icmp_ne (tgt := 31) hx hb dX7_isConformal_5 (by decide) (fun c_5 => ?_) (fun c_5 => ?_)
  · have c_5 : ¬ q0 = 1 := fun h => c_5 ((nI_eq (a := q0) (b := 1) (by omega) (by omega)).mpr h)
    refine lv_iconst (v := nI 0) hx hb dX7_isConformal_31 (by decide) ?_
    subst hQe
    exact W.zret (v := nI 0) hx hb hr rfl (fun tz ht hW => ⟨_, rfl, (by unfold cfB; rw [decide_eq_false c_5, Bool.false_and, Bool.false_and, Bool.false_and]; rfl), ht⟩) hS.2.2 dX7_isConformal_32
  · have c_5 : q0 = 1 := (nI_eq (a := q0) (b := 1) (by omega) (by omega)).mp c_5
    refine lv_aload_n hx hb dX7_isConformal_8 rfl (lv_at hl 0 rfl) ?_
    refine va_get (D := (dC, dI)) (ci := 2) (v := .int (nI r0)) (C := RX7) (T := TX7) (N := 27) hx hb hts in_X7 hown hK hP 0 rfl rfl 3 (by decide) (hts _ q2009) (fun _ h9 => h9) rfl dX7_isConformal_9 ?_
    refine lv_if_ne (tgt := 31) hx hb dX7_isConformal_12 (by decide) (fun c_12 => ?_) (fun c_12 => ?_)
    · have c_12 : ¬ r0 = 0 := fun h => c_12 ((nI_eq (a := r0) (b := 0) (by omega) (by omega)).mpr h)
      refine lv_iconst (v := nI 0) hx hb dX7_isConformal_31 (by decide) ?_
      subst hQe
      exact W.zret (v := nI 0) hx hb hr rfl (fun tz ht hW => ⟨_, rfl, (by unfold cfB; rw [decide_eq_true c_5, decide_eq_false c_12, Bool.true_and, Bool.false_and, Bool.false_and]; rfl), ht⟩) hS.2.2 dX7_isConformal_32
    · have c_12 : r0 = 0 := (nI_eq (a := r0) (b := 0) (by omega) (by omega)).mp c_12
      refine lv_aload_n hx hb dX7_isConformal_15 rfl (lv_at hl 0 rfl) ?_
      refine va_get (D := (dC, dI)) (ci := 2) (v := .int (nI p0)) (C := RX7) (T := TX7) (N := 27) hx hb hts in_X7 hown hK hP 0 rfl rfl 1 (by decide) (hts _ q2007) (fun _ h9 => h9) rfl dX7_isConformal_16 ?_
      refine lv_iconst (v := nI 2) hx hb dX7_isConformal_19 (by decide) ?_
      refine lv_iconst (v := nI 4) hx hb dX7_isConformal_20 (by decide) ?_
      refine s_i (va_runS (As := [.int (nI p0), .int (nI 2), .int (nI 4)]) (rest := []) ⟨hx, hb, hml, hown, hts⟩ (x7_in Z (nI p0) (nI 2) (nI 4)) (va_cwS 3 hts (lw_S q2097 q2098 q107 q2099) rfl rfl rfl (by decide +kernel) ⟨Nat.le_of_ble_eq_true rfl, Nat.le_of_ble_eq_true rfl⟩) (gP_S hG hS (fun q _ h => h.elim) trivial) rfl rfl hl.1 rfl (lv_room (Nat.le_of_ble_eq_true rfl)) dX7_isConformal_21 ⟨by first | decide | omega, by first | decide | omega⟩) ?_
      refine e_i (y := bI (decide (2 ≤ p0) && decide (p0 ≤ 4))) ((by rw [inB_n (by omega) (by omega) (by omega)])) ?_
      refine lv_if_eq (tgt := 31) hx hb dX7_isConformal_24 (by decide) (fun c_24 => ?_) (fun c_24 => ?_)
      · refine lv_iconst (v := nI 0) hx hb dX7_isConformal_31 (by decide) ?_
        subst hQe
        exact W.zret (v := nI 0) hx hb hr rfl (fun tz ht hW => ⟨_, rfl, (by unfold cfB; rw [decide_eq_true c_5, decide_eq_true c_12, Bool.true_and, Bool.true_and, bI_0 c_24]; rfl), ht⟩) hS.2.2 dX7_isConformal_32
      · refine lv_iconst (v := nI 1) hx hb dX7_isConformal_27 (by decide) ?_
        refine lv_goto (tgt := 32) hx hb dX7_isConformal_28 (by decide) ?_
        subst hQe
        exact W.zret (v := nI 1) hx hb hr rfl (fun tz ht hW => ⟨_, rfl, (by unfold cfB; rw [decide_eq_true c_5, decide_eq_true c_12, Bool.true_and, Bool.true_and, bI_1 c_24]; rfl), ht⟩) hS.2.2 dX7_isConformal_32
set_option maxHeartbeats 4000000 in
theorem x7_dimension {l : Launch} {dC : Nat → ClassId} {dI : Nat → Nat → Nat} {dA : Nat → ClassId} {s0 : State} {b0 : Addr} (Z : Z0 l dC dI dA s0 b0) (o : Nat → Nat) (th : Int32) (p0 q0 r0 : Nat) (mu : Int64) (zz : Nat → Int32) (hp1 : 1 ≤ p0) : Met l yX7_dimension (ws_ yX7_dimension cX7_dimension 1 (some .int)) ({ frames := 1, cells := 0, slots := 0, locals := 60 } : Room) (gP [.ref (o 0)] s0 (fun _ => False) (fun H => va_P (dC, dI) vwCl [(o 0, .inr (2, mFs o th p0 q0 r0 mu zz))] H)) (vp_Si (fun r => r = nI (p0 - 1))) 0 0 (fun _ => False) := by
  refine Met.ofW (cc := cX7_dimension) (maxL := 1) (ret := (some .int)) (by decide) rfl ?_
  intro p e s m args below meth c s₁ B hml hv
  obtain ⟨hav, hG, hP⟩ := hv
  have hx := B.exec
  have hb := B.bytes
  have hr := B.returns
  have hts := atoms_spec (ws := (ws_ yX7_dimension cX7_dimension 1 (some .int))) B.pre
  have hts : ∀ w ∈ lw_all, w.before _ s = true := fun w h => hts w (List.mem_cons_of_mem _ h)
  have hown : s.vm.findClass RX7 = some m.cls := findClass_of_methodNamed B.named
  have hlocks := B.notSynchronized
  have hK := hG.K Z
  have hS : va_S (fun _ => False) s.heap s.heap [] := va_S.rf
  have hl := lv_entry ([.ref (o 0)]) (n := 1) (Nat.le_of_ble_eq_true rfl)
  rw [show entryFrame m args 1 = entryFrame m ([.ref (o 0)] : List Value).toArray 1 from by rw [hav], lg_entry_eq]
  generalize (lg_sl ([.ref (o 0)]) ++ List.replicate (1 - (lg_sl ([.ref (o 0)])).length) Slot.unset).toArray = ls at hl ⊢
  have hl : lv_has ls 1 [(0, .ref (o 0))] := hl
  generalize hQe : MQ below _ _ s _ _ _ = Q
  change W p l e ({ frames := 1, cells := 0, slots := 0, locals := 60 } : Room) s m args below meth c s.heap [] 0 0 Q (F0 m 0 ls [])
  refine lv_aload_n hx hb dX7_dimension_0 rfl (lv_at hl 0 rfl) ?_
  refine va_get (D := (dC, dI)) (ci := 2) (v := .int (nI p0)) (C := RX7) (T := TX7) (N := 27) hx hb hts in_X7 hown hK hP 0 rfl rfl 1 (by decide) (hts _ q2007) (fun _ h9 => h9) rfl dX7_dimension_1 ?_
  refine lv_iconst (v := nI 1) hx hb dX7_dimension_4 (by decide) ?_
  refine lv_isub hx hb dX7_dimension_5 ?_
  refine e_i (y := nI (p0 - 1)) (pk_sub (by omega)) ?_
  subst hQe
  exact W.iret (v := nI (p0 - 1)) hx hb hr (fun tz ht hW => ⟨_, rfl, rfl, ht⟩) hS.2.2 dX7_dimension_6
set_option maxHeartbeats 4000000 in
theorem x7_first {l : Launch} {dC : Nat → ClassId} {dI : Nat → Nat → Nat} {dA : Nat → ClassId} {s0 : State} {b0 : Addr} (Z : Z0 l dC dI dA s0 b0) (o : Nat → Nat) (th : Int32) (p0 q0 r0 : Nat) (mu : Int64) (zz : Nat → Int32) (hp1 : 1 ≤ p0) (hp2 : p0 ≤ 5) : Met l yX7_first (ws_ yX7_first cX7_first 1 (some .int)) ({ frames := 1, cells := 0, slots := 0, locals := 60 } : Room) (gP [.ref (o 0)] s0 (fun _ => False) (fun H => va_P (dC, dI) vwCl [(o 0, .inr (2, mFs o th p0 q0 r0 mu zz))] H)) (vp_Si (fun r => r = nI (2 ^ (p0 - 1)))) 0 0 (fun _ => False) := by
  refine Met.ofW (cc := cX7_first) (maxL := 1) (ret := (some .int)) (by decide) rfl ?_
  intro p e s m args below meth c s₁ B hml hv
  obtain ⟨hav, hG, hP⟩ := hv
  have hx := B.exec
  have hb := B.bytes
  have hr := B.returns
  have hts := atoms_spec (ws := (ws_ yX7_first cX7_first 1 (some .int))) B.pre
  have hts : ∀ w ∈ lw_all, w.before _ s = true := fun w h => hts w (List.mem_cons_of_mem _ h)
  have hown : s.vm.findClass RX7 = some m.cls := findClass_of_methodNamed B.named
  have hlocks := B.notSynchronized
  have hK := hG.K Z
  have hS : va_S (fun _ => False) s.heap s.heap [] := va_S.rf
  have hl := lv_entry ([.ref (o 0)]) (n := 1) (Nat.le_of_ble_eq_true rfl)
  rw [show entryFrame m args 1 = entryFrame m ([.ref (o 0)] : List Value).toArray 1 from by rw [hav], lg_entry_eq]
  generalize (lg_sl ([.ref (o 0)]) ++ List.replicate (1 - (lg_sl ([.ref (o 0)])).length) Slot.unset).toArray = ls at hl ⊢
  have hl : lv_has ls 1 [(0, .ref (o 0))] := hl
  generalize hQe : MQ below _ _ s _ _ _ = Q
  change W p l e ({ frames := 1, cells := 0, slots := 0, locals := 60 } : Room) s m args below meth c s.heap [] 0 0 Q (F0 m 0 ls [])
  refine lv_iconst (v := nI 1) hx hb dX7_first_0 (by decide) ?_
  refine lv_aload_n hx hb dX7_first_1 rfl (lv_at hl 0 rfl) ?_
  refine va_get (D := (dC, dI)) (ci := 2) (v := .int (nI p0)) (C := RX7) (T := TX7) (N := 27) hx hb hts in_X7 hown hK hP 0 rfl rfl 1 (by decide) (hts _ q2007) (fun _ h9 => h9) rfl dX7_first_2 ?_
  refine lv_iconst (v := nI 1) hx hb dX7_first_5 (by decide) ?_
  refine lv_isub hx hb dX7_first_6 ?_
  refine e_i (y := nI (p0 - 1)) (pk_sub (by omega)) ?_
  refine lv_ishl hx hb dX7_first_7 ?_
  refine e_i (y := nI (2 ^ (p0 - 1))) (n_shl1 (by omega)) ?_
  subst hQe
  exact W.iret (v := nI (2 ^ (p0 - 1))) hx hb hr (fun tz ht hW => ⟨_, rfl, rfl, ht⟩) hS.2.2 dX7_first_8
set_option maxHeartbeats 4000000 in
theorem x7_second {l : Launch} {dC : Nat → ClassId} {dI : Nat → Nat → Nat} {dA : Nat → ClassId} {s0 : State} {b0 : Addr} (Z : Z0 l dC dI dA s0 b0) (o : Nat → Nat) (th : Int32) (p0 q0 r0 : Nat) (mu : Int64) (zz : Nat → Int32) (hp2 : p0 ≤ 5) : Met l yX7_second (ws_ yX7_second cX7_second 1 (some .int)) ({ frames := 1, cells := 0, slots := 0, locals := 60 } : Room) (gP [.ref (o 0)] s0 (fun _ => False) (fun H => va_P (dC, dI) vwCl [(o 0, .inr (2, mFs o th p0 q0 r0 mu zz))] H)) (vp_Si (fun r => r = nI (2 ^ p0))) 0 0 (fun _ => False) := by
  refine Met.ofW (cc := cX7_second) (maxL := 1) (ret := (some .int)) (by decide) rfl ?_
  intro p e s m args below meth c s₁ B hml hv
  obtain ⟨hav, hG, hP⟩ := hv
  have hx := B.exec
  have hb := B.bytes
  have hr := B.returns
  have hts := atoms_spec (ws := (ws_ yX7_second cX7_second 1 (some .int))) B.pre
  have hts : ∀ w ∈ lw_all, w.before _ s = true := fun w h => hts w (List.mem_cons_of_mem _ h)
  have hown : s.vm.findClass RX7 = some m.cls := findClass_of_methodNamed B.named
  have hlocks := B.notSynchronized
  have hK := hG.K Z
  have hS : va_S (fun _ => False) s.heap s.heap [] := va_S.rf
  have hl := lv_entry ([.ref (o 0)]) (n := 1) (Nat.le_of_ble_eq_true rfl)
  rw [show entryFrame m args 1 = entryFrame m ([.ref (o 0)] : List Value).toArray 1 from by rw [hav], lg_entry_eq]
  generalize (lg_sl ([.ref (o 0)]) ++ List.replicate (1 - (lg_sl ([.ref (o 0)])).length) Slot.unset).toArray = ls at hl ⊢
  have hl : lv_has ls 1 [(0, .ref (o 0))] := hl
  generalize hQe : MQ below _ _ s _ _ _ = Q
  change W p l e ({ frames := 1, cells := 0, slots := 0, locals := 60 } : Room) s m args below meth c s.heap [] 0 0 Q (F0 m 0 ls [])
  refine lv_iconst (v := nI 1) hx hb dX7_second_0 (by decide) ?_
  refine lv_aload_n hx hb dX7_second_1 rfl (lv_at hl 0 rfl) ?_
  refine va_get (D := (dC, dI)) (ci := 2) (v := .int (nI p0)) (C := RX7) (T := TX7) (N := 27) hx hb hts in_X7 hown hK hP 0 rfl rfl 1 (by decide) (hts _ q2007) (fun _ h9 => h9) rfl dX7_second_2 ?_
  refine lv_ishl hx hb dX7_second_5 ?_
  refine e_i (y := nI (2 ^ p0)) (n_shl1 (by omega)) ?_
  subst hQe
  exact W.iret (v := nI (2 ^ p0)) hx hb hr (fun tz ht hW => ⟨_, rfl, rfl, ht⟩) hS.2.2 dX7_second_6
set_option maxHeartbeats 4000000 in
theorem x7_isCoordinate {l : Launch} {dC : Nat → ClassId} {dI : Nat → Nat → Nat} {dA : Nat → ClassId} {s0 : State} {b0 : Addr} (Z : Z0 l dC dI dA s0 b0) (v : Int32) : Met l yX7_isCoordinate (ws_ yX7_isCoordinate cX7_isCoordinate 1 (some .boolean)) ({ frames := 2, cells := 0, slots := 0, locals := 120 } : Room) (gP [.int v] s0 (fun _ => False) (fun H => True)) (vp_Si (fun r => r = bI (coB v))) 0 0 (fun _ => False) := by
  refine Met.ofW (cc := cX7_isCoordinate) (maxL := 1) (ret := (some .boolean)) (by decide) rfl ?_
  intro p e s m args below meth c s₁ B hml hv
  obtain ⟨hav, hG, hno⟩ := hv
  have hx := B.exec
  have hb := B.bytes
  have hr := B.returns
  have hts := atoms_spec (ws := (ws_ yX7_isCoordinate cX7_isCoordinate 1 (some .boolean))) B.pre
  have hts : ∀ w ∈ lw_all, w.before _ s = true := fun w h => hts w (List.mem_cons_of_mem _ h)
  have hown : s.vm.findClass RX7 = some m.cls := findClass_of_methodNamed B.named
  have hlocks := B.notSynchronized
  have hK := hG.K Z
  have hS : va_S (fun _ => False) s.heap s.heap [] := va_S.rf
  have hP : va_P (dC, dI) vwCl [] s.heap := fun k q h => by simp at h
  have hD : va_D (fun _ => False) [] := ⟨fun i j p q h => by simp at h, fun k q h => by simp at h⟩
  have hl := lv_entry ([.int v]) (n := 1) (Nat.le_of_ble_eq_true rfl)
  rw [show entryFrame m args 1 = entryFrame m ([.int v] : List Value).toArray 1 from by rw [hav], lg_entry_eq]
  generalize (lg_sl ([.int v]) ++ List.replicate (1 - (lg_sl ([.int v])).length) Slot.unset).toArray = ls at hl ⊢
  have hl : lv_has ls 1 [(0, .int v)] := hl
  generalize hQe : MQ below _ _ s _ _ _ = Q
  change W p l e ({ frames := 2, cells := 0, slots := 0, locals := 120 } : Room) s m args below meth c s.heap [] 0 0 Q (F0 m 0 ls [])
  refine lv_iload_n hx hb dX7_isCoordinate_0 rfl (lv_at hl 0 rfl) ?_
  refine lv_sipush (v := (-1000)) hx hb dX7_isCoordinate_1 (by decide) ?_
  refine lv_sipush (v := nI 1000) hx hb dX7_isCoordinate_4 (by decide) ?_
  refine s_i (va_runS (As := [.int v, .int (-1000), .int (nI 1000)]) (rest := []) ⟨hx, hb, hml, hown, hts⟩ (x7_in Z v (-1000) (nI 1000)) (va_cwS 3 hts (lw_S q2097 q2098 q107 q2099) rfl rfl rfl (by decide +kernel) ⟨Nat.le_of_ble_eq_true rfl, Nat.le_of_ble_eq_true rfl⟩) (gP_S hG hS (fun q _ h => h.elim) trivial) rfl rfl hl.1 rfl (lv_room (Nat.le_of_ble_eq_true rfl)) dX7_isCoordinate_7 ⟨by first | decide | omega, by first | decide | omega⟩) ?_
  subst hQe
  exact W.zret (v := bI (inB v (-1000) (nI 1000))) hx hb hr (bI_z _) (fun tz ht hW => ⟨_, rfl, rfl, ht⟩) hS.2.2 dX7_isCoordinate_10
set_option maxHeartbeats 4000000 in
theorem x7_coordinate {l : Launch} {dC : Nat → ClassId} {dI : Nat → Nat → Nat} {dA : Nat → ClassId} {s0 : State} {b0 : Addr} (Z : Z0 l dC dI dA s0 b0) (k : Nat) (x y z : Int32) (hk9 : k < 3) : Met l yX7_coordinate (ws_ yX7_coordinate cX7_coordinate 4 (some .int)) ({ frames := 1, cells := 0, slots := 0, locals := 60 } : Room) (gP [.int (nI k), .int x, .int y, .int z] s0 (fun _ => False) (fun H => True)) (vp_Si (fun r => r = coV k x y z)) 0 0 (fun _ => False) := by
  refine Met.ofW (cc := cX7_coordinate) (maxL := 4) (ret := (some .int)) (by decide) rfl ?_
  intro p e s m args below meth c s₁ B hml hv
  obtain ⟨hav, hG, hno⟩ := hv
  have hx := B.exec
  have hb := B.bytes
  have hr := B.returns
  have hts := atoms_spec (ws := (ws_ yX7_coordinate cX7_coordinate 4 (some .int))) B.pre
  have hts : ∀ w ∈ lw_all, w.before _ s = true := fun w h => hts w (List.mem_cons_of_mem _ h)
  have hown : s.vm.findClass RX7 = some m.cls := findClass_of_methodNamed B.named
  have hlocks := B.notSynchronized
  have hK := hG.K Z
  have hS : va_S (fun _ => False) s.heap s.heap [] := va_S.rf
  have hP : va_P (dC, dI) vwCl [] s.heap := fun k q h => by simp at h
  have hD : va_D (fun _ => False) [] := ⟨fun i j p q h => by simp at h, fun k q h => by simp at h⟩
  have hl := lv_entry ([.int (nI k), .int x, .int y, .int z]) (n := 4) (Nat.le_of_ble_eq_true rfl)
  rw [show entryFrame m args 4 = entryFrame m ([.int (nI k), .int x, .int y, .int z] : List Value).toArray 4 from by rw [hav], lg_entry_eq]
  generalize (lg_sl ([.int (nI k), .int x, .int y, .int z]) ++ List.replicate (4 - (lg_sl ([.int (nI k), .int x, .int y, .int z])).length) Slot.unset).toArray = ls at hl ⊢
  have hl : lv_has ls 4 [(0, .int (nI k)), (1, .int x), (2, .int y), (3, .int z)] := hl
  generalize hQe : MQ below _ _ s _ _ _ = Q
  change W p l e ({ frames := 1, cells := 0, slots := 0, locals := 60 } : Room) s m args below meth c s.heap [] 0 0 Q (F0 m 0 ls [])
  refine lv_iload_n hx hb dX7_coordinate_0 rfl (lv_at hl 0 rfl) ?_
  refine lv_if_ne (tgt := 8) hx hb dX7_coordinate_1 (by decide) (fun c_1 => ?_) (fun c_1 => ?_)
  · have c_1 : ¬ k = 0 := fun h => c_1 ((nI_eq (a := k) (b := 0) (by omega) (by omega)).mpr h)
    refine lv_iload_n hx hb dX7_coordinate_8 rfl (lv_at hl 0 rfl) ?_
    refine lv_iconst (v := nI 1) hx hb dX7_coordinate_9 (by decide) ?_
    refine lv_icmp_ne (tgt := 17) hx hb dX7_coordinate_10 (by decide) (fun c_10 => ?_) (fun c_10 => ?_)
    · have c_10 : ¬ k = 1 := fun h => c_10 ((nI_eq (a := k) (b := 1) (by omega) (by omega)).mpr h)
      refine lv_iload_n hx hb dX7_coordinate_17 rfl (lv_at hl 3 rfl) ?_
      subst hQe
      exact W.iret (v := z) hx hb hr (fun tz ht hW => ⟨_, rfl, (by unfold coV; rw [if_neg c_1, if_neg c_10]), ht⟩) hS.2.2 dX7_coordinate_18
    · have c_10 : k = 1 := (nI_eq (a := k) (b := 1) (by omega) (by omega)).mp c_10
      refine lv_iload_n hx hb dX7_coordinate_13 rfl (lv_at hl 2 rfl) ?_
      refine lv_goto (tgt := 18) hx hb dX7_coordinate_14 (by decide) ?_
      subst hQe
      exact W.iret (v := y) hx hb hr (fun tz ht hW => ⟨_, rfl, (by unfold coV; rw [if_neg c_1, if_pos c_10]), ht⟩) hS.2.2 dX7_coordinate_18
  · have c_1 : k = 0 := (nI_eq (a := k) (b := 0) (by omega) (by omega)).mp c_1
    refine lv_iload_n hx hb dX7_coordinate_4 rfl (lv_at hl 1 rfl) ?_
    refine lv_goto (tgt := 18) hx hb dX7_coordinate_5 (by decide) ?_
    subst hQe
    exact W.iret (v := x) hx hb hr (fun tz ht hW => ⟨_, rfl, (by unfold coV; rw [if_pos c_1]), ht⟩) hS.2.2 dX7_coordinate_18
set_option maxHeartbeats 4000000 in
theorem x7_twiceWeight {l : Launch} {dC : Nat → ClassId} {dI : Nat → Nat → Nat} {dA : Nat → ClassId} {s0 : State} {b0 : Addr} (Z : Z0 l dC dI dA s0 b0) (o : Nat → Nat) (th : Int32) (p0 q0 r0 : Nat) (mu : Int64) (zz : Nat → Int32) (fA : Nat → Int64) (k1 : Nat) (M : MV) (hp1 : 1 ≤ p0) (hp2 : p0 ≤ 4) (hk1 : k1 < 80) (hM : Hold fA k1 M) : Met l yX7_twiceWeight (ws_ yX7_twiceWeight cX7_twiceWeight 2 (some .long)) ({ frames := 2, cells := 0, slots := 0, locals := 120 } : Room) (gP [.ref (o 0), .int (nI k1)] s0 (fun _ => False) (fun H => va_P (dC, dI) vwCl [(o 0, .inr (2, mFs o th p0 q0 r0 mu zz)), (o 5, .inl (dA 1, 2640, .inr (.inl fA)))] H)) (vp_Sl (fun r => r = twW p0 M)) 0 0 (fun _ => False) := by
  refine Met.ofW (cc := cX7_twiceWeight) (maxL := 2) (ret := (some .long)) (by decide) rfl ?_
  intro p e s m args below meth c s₁ B hml hv
  obtain ⟨hav, hG, hP⟩ := hv
  have hx := B.exec
  have hb := B.bytes
  have hr := B.returns
  have hts := atoms_spec (ws := (ws_ yX7_twiceWeight cX7_twiceWeight 2 (some .long))) B.pre
  have hts : ∀ w ∈ lw_all, w.before _ s = true := fun w h => hts w (List.mem_cons_of_mem _ h)
  have hown : s.vm.findClass RX7 = some m.cls := findClass_of_methodNamed B.named
  have hlocks := B.notSynchronized
  have hK := hG.K Z
  have hS : va_S (fun _ => False) s.heap s.heap [] := va_S.rf
  have hl := lv_entry ([.ref (o 0), .int (nI k1)]) (n := 2) (Nat.le_of_ble_eq_true rfl)
  rw [show entryFrame m args 2 = entryFrame m ([.ref (o 0), .int (nI k1)] : List Value).toArray 2 from by rw [hav], lg_entry_eq]
  generalize (lg_sl ([.ref (o 0), .int (nI k1)]) ++ List.replicate (2 - (lg_sl ([.ref (o 0), .int (nI k1)])).length) Slot.unset).toArray = ls at hl ⊢
  have hl : lv_has ls 2 [(0, .ref (o 0)), (1, .int (nI k1))] := hl
  generalize hQe : MQ below _ _ s _ _ _ = Q
  change W p l e ({ frames := 2, cells := 0, slots := 0, locals := 120 } : Room) s m args below meth c s.heap [] 0 0 Q (F0 m 0 ls [])
  have hq1 := p5 (k := p0) (by omega)
  have hq2 := p5 (k := p0 - 1) (by omega)
  refine lv_aload_n hx hb dX7_twiceWeight_0 rfl (lv_at hl 0 rfl) ?_
  refine lv_iload_n hx hb dX7_twiceWeight_1 rfl (lv_at hl 1 rfl) ?_
  refine lv_aload_n hx hb dX7_twiceWeight_2 rfl (lv_at hl 0 rfl) ?_
  refine s_i (va_runV (As := []) (rest := [.int (nI k1), .ref (o 0)]) ⟨hx, hb, hml, hown, hts⟩ (x7_second Z o th p0 q0 r0 mu zz (by omega)) (cwV 0 hts (lw_V q2394 q2396 qs73 q107 q2397) rfl rfl rfl (by decide +kernel) ⟨Nat.le_of_ble_eq_true rfl, Nat.le_of_ble_eq_true rfl⟩) (gP_V (va_recv hK hP (ci := 2) (q0 := 0) rfl rfl) hG hS (fun q _ h => h.elim) (hP.sub (ws' := [(o 0, .inr (2, mFs o th p0 q0 r0 mu zz))]) [0] rfl)) rfl rfl hl.1 rfl (lv_room (Nat.le_of_ble_eq_true rfl)) dX7_twiceWeight_3 ⟨by first | decide | omega, by first | decide | omega⟩) ?_
  refine s_l (va_runV (As := [.int (nI k1), .int (nI (2 ^ p0))]) (rest := []) ⟨hx, hb, hml, hown, hts⟩ (x7_of Z o th p0 q0 r0 mu zz fA k1 (2 ^ p0) (by omega)) (cwV 2 hts (lw_V q2119 q2121 qs38 q107 q2122) rfl rfl rfl (by decide +kernel) ⟨Nat.le_of_ble_eq_true rfl, Nat.le_of_ble_eq_true rfl⟩) (gP_V (va_recv hK hP (ci := 2) (q0 := 0) rfl rfl) hG hS (fun q _ h => h.elim) (hP.sub (ws' := [(o 0, .inr (2, mFs o th p0 q0 r0 mu zz)), (o 5, .inl (dA 1, 2640, .inr (.inl fA)))]) [0, 1] rfl)) rfl rfl hl.1 rfl (lv_room (Nat.le_of_ble_eq_true rfl)) dX7_twiceWeight_6 ⟨by first | decide | omega, by first | decide | omega⟩) ?_
  refine e_l (y := M ((2 ^ p0) + 1)) (hold_at hM (i := (2 ^ p0) + 1) (by omega) (by omega)) ?_
  refine lv_aload_n hx hb dX7_twiceWeight_9 rfl (lv_at hl 0 rfl) ?_
  refine lv_iload_n hx hb dX7_twiceWeight_10 rfl (lv_at hl 1 rfl) ?_
  refine lv_aload_n hx hb dX7_twiceWeight_11 rfl (lv_at hl 0 rfl) ?_
  refine s_i (va_runV (As := []) (rest := [.int (nI k1), .ref (o 0), .long (M ((2 ^ p0) + 1))]) ⟨hx, hb, hml, hown, hts⟩ (x7_first Z o th p0 q0 r0 mu zz (by omega) (by omega)) (cwV 0 hts (lw_V q2390 q2392 qs72 q107 q2393) rfl rfl rfl (by decide +kernel) ⟨Nat.le_of_ble_eq_true rfl, Nat.le_of_ble_eq_true rfl⟩) (gP_V (va_recv hK hP (ci := 2) (q0 := 0) rfl rfl) hG hS (fun q _ h => h.elim) (hP.sub (ws' := [(o 0, .inr (2, mFs o th p0 q0 r0 mu zz))]) [0] rfl)) rfl rfl hl.1 rfl (lv_room (Nat.le_of_ble_eq_true rfl)) dX7_twiceWeight_12 ⟨by first | decide | omega, by first | decide | omega⟩) ?_
  refine s_l (va_runV (As := [.int (nI k1), .int (nI (2 ^ (p0 - 1)))]) (rest := [.long (M ((2 ^ p0) + 1))]) ⟨hx, hb, hml, hown, hts⟩ (x7_of Z o th p0 q0 r0 mu zz fA k1 (2 ^ (p0 - 1)) (by omega)) (cwV 2 hts (lw_V q2119 q2121 qs38 q107 q2122) rfl rfl rfl (by decide +kernel) ⟨Nat.le_of_ble_eq_true rfl, Nat.le_of_ble_eq_true rfl⟩) (gP_V (va_recv hK hP (ci := 2) (q0 := 0) rfl rfl) hG hS (fun q _ h => h.elim) (hP.sub (ws' := [(o 0, .inr (2, mFs o th p0 q0 r0 mu zz)), (o 5, .inl (dA 1, 2640, .inr (.inl fA)))]) [0, 1] rfl)) rfl rfl hl.1 rfl (lv_room (Nat.le_of_ble_eq_true rfl)) dX7_twiceWeight_15 ⟨by first | decide | omega, by first | decide | omega⟩) ?_
  refine e_l (y := M ((2 ^ (p0 - 1)) + 1)) (hold_at hM (i := (2 ^ (p0 - 1)) + 1) (by omega) (by omega)) ?_
  refine lv_lsub hx hb dX7_twiceWeight_18 ?_
  subst hQe
  exact W.lret (v := (M ((2 ^ p0) + 1)) - (M ((2 ^ (p0 - 1)) + 1))) hx hb hr (fun tz ht hW => ⟨_, rfl, rfl, ht⟩) hS.2.2 dX7_twiceWeight_19
set_option maxHeartbeats 4000000 in
theorem x7_wrongSphere {l : Launch} {dC : Nat → ClassId} {dI : Nat → Nat → Nat} {dA : Nat → ClassId} {s0 : State} {b0 : Addr} (Z : Z0 l dC dI dA s0 b0) (o : Nat → Nat) (th : Int32) (p0 q0 r0 : Nat) (mu : Int64) (zz : Nat → Int32) (fA : Nat → Int64) (Ms : Nat → MV) (t a : Int32) (hn : p0 + q0 + r0 ≤ 5) (hR : ∀ k, k < 8 → Hold fA k (Ms k)) : Met l yX7_wrongSphere (ws_ yX7_wrongSphere cX7_wrongSphere 3 (some .int)) ({ frames := 4, cells := 0, slots := 0, locals := 240 } : Room) (gP [.ref (o 0), .int t, .int a] s0 (fun _ => False) (fun H => va_P (dC, dI) vwCl [(o 0, .inr (2, mFs o th p0 q0 r0 mu zz)), (o 5, .inl (dA 1, 2640, .inr (.inl fA)))] H)) (vp_Si (fun r => r = wsX p0 q0 r0 Ms t a)) 0 0 (fun _ => False) := by
  refine Met.ofW (cc := cX7_wrongSphere) (maxL := 3) (ret := (some .int)) (by decide) rfl ?_
  intro p e s m args below meth c s₁ B hml hv
  obtain ⟨hav, hG, hP⟩ := hv
  have hx := B.exec
  have hb := B.bytes
  have hr := B.returns
  have hts := atoms_spec (ws := (ws_ yX7_wrongSphere cX7_wrongSphere 3 (some .int))) B.pre
  have hts : ∀ w ∈ lw_all, w.before _ s = true := fun w h => hts w (List.mem_cons_of_mem _ h)
  have hown : s.vm.findClass RX7 = some m.cls := findClass_of_methodNamed B.named
  have hlocks := B.notSynchronized
  have hK := hG.K Z
  have hS : va_S (fun _ => False) s.heap s.heap [] := va_S.rf
  have hl := lv_entry ([.ref (o 0), .int t, .int a]) (n := 3) (Nat.le_of_ble_eq_true rfl)
  rw [show entryFrame m args 3 = entryFrame m ([.ref (o 0), .int t, .int a] : List Value).toArray 3 from by rw [hav], lg_entry_eq]
  generalize (lg_sl ([.ref (o 0), .int t, .int a]) ++ List.replicate (3 - (lg_sl ([.ref (o 0), .int t, .int a])).length) Slot.unset).toArray = ls at hl ⊢
  have hl : lv_has ls 3 [(0, .ref (o 0)), (1, .int t), (2, .int a)] := hl
  generalize hQe : MQ below _ _ s _ _ _ = Q
  change W p l e ({ frames := 4, cells := 0, slots := 0, locals := 240 } : Room) s m args below meth c s.heap [] 0 0 Q (F0 m 0 ls [])
  refine lv_iload_n hx hb dX7_wrongSphere_0 rfl (lv_at hl 1 rfl) ?_
  refine s_i (va_runS (As := [.int t]) (rest := []) ⟨hx, hb, hml, hown, hts⟩ (x7_isRegister Z t) (va_cwS 1 hts (lw_S q2104 q2105 q107 q2106) rfl rfl rfl (by decide +kernel) ⟨Nat.le_of_ble_eq_true rfl, Nat.le_of_ble_eq_true rfl⟩) (gP_S hG hS (fun q _ h => h.elim) trivial) rfl rfl hl.1 rfl (lv_room (Nat.le_of_ble_eq_true rfl)) dX7_wrongSphere_1 ⟨by first | decide | omega, by first | decide | omega⟩) ?_
  refine lv_if_eq (tgt := 14) hx hb dX7_wrongSphere_4 (by decide) (fun c_4 => ?_) (fun c_4 => ?_)
  · refine lv_iconst (v := nI 1) hx hb dX7_wrongSphere_14 (by decide) ?_
    subst hQe
    exact W.iret (v := nI 1) hx hb hr (fun tz ht hW => ⟨_, rfl, (by unfold wsX; rw [show rgB t = false from bI_0 c_4, Bool.false_and]; rfl), ht⟩) hS.2.2 dX7_wrongSphere_15
  · refine lv_iload_n hx hb dX7_wrongSphere_7 rfl (lv_at hl 2 rfl) ?_
    refine s_i (va_runS (As := [.int a]) (rest := []) ⟨hx, hb, hml, hown, hts⟩ (x7_isRegister Z a) (va_cwS 1 hts (lw_S q2104 q2105 q107 q2106) rfl rfl rfl (by decide +kernel) ⟨Nat.le_of_ble_eq_true rfl, Nat.le_of_ble_eq_true rfl⟩) (gP_S hG hS (fun q _ h => h.elim) trivial) rfl rfl hl.1 rfl (lv_room (Nat.le_of_ble_eq_true rfl)) dX7_wrongSphere_8 ⟨by first | decide | omega, by first | decide | omega⟩) ?_
    refine lv_if_ne (tgt := 16) hx hb dX7_wrongSphere_11 (by decide) (fun c_11 => ?_) (fun c_11 => ?_)
    · have h_t : rgB t = true := bI_1 c_4
      have h_a : rgB a = true := bI_1 c_11
      obtain ⟨ja, hj_a, rfl⟩ := inB_nat (by decide) h_a
      refine lv_aload_n hx hb dX7_wrongSphere_16 rfl (lv_at hl 0 rfl) ?_
      refine s_i (va_runV (As := []) (rest := []) ⟨hx, hb, hml, hown, hts⟩ (x7_isConformal Z o th p0 q0 r0 mu zz (by omega)) (cwV 0 hts (lw_V q2379 q2381 qs70 q107 q2382) rfl rfl rfl (by decide +kernel) ⟨Nat.le_of_ble_eq_true rfl, Nat.le_of_ble_eq_true rfl⟩) (gP_V (va_recv hK hP (ci := 2) (q0 := 0) rfl rfl) hG hS (fun q _ h => h.elim) (hP.sub (ws' := [(o 0, .inr (2, mFs o th p0 q0 r0 mu zz))]) [0] rfl)) rfl rfl hl.1 rfl (lv_room (Nat.le_of_ble_eq_true rfl)) dX7_wrongSphere_17 ⟨by first | decide | omega, by first | decide | omega⟩) ?_
      refine lv_if_eq (tgt := 45) hx hb dX7_wrongSphere_20 (by decide) (fun c_20 => ?_) (fun c_20 => ?_)
      · refine lv_iconst (v := nI 2) hx hb dX7_wrongSphere_45 (by decide) ?_
        subst hQe
        exact W.iret (v := nI 2) hx hb hr (fun tz ht hW => ⟨_, rfl, (by unfold wsX wsB; rw [h_t, h_a, rg_n (show ja < 8 by omega), bI_0 c_20, Bool.false_and, Bool.false_and]; rfl), ht⟩) hS.2.2 dX7_wrongSphere_46
      · have hcf := cf_p (bI_1 c_20)
        refine lv_aload_n hx hb dX7_wrongSphere_23 rfl (lv_at hl 0 rfl) ?_
        refine lv_iload_n hx hb dX7_wrongSphere_24 rfl (lv_at hl 2 rfl) ?_
        refine s_i (va_runV (As := [.int (nI ja)]) (rest := []) ⟨hx, hb, hml, hown, hts⟩ (x7_isVector Z o th p0 q0 r0 mu zz fA ja (Ms ja) (by omega) (hR ja (by omega))) (cwV 1 hts (lw_V q2285 q2287 qs61 q107 q2288) rfl rfl rfl (by decide +kernel) ⟨Nat.le_of_ble_eq_true rfl, Nat.le_of_ble_eq_true rfl⟩) (gP_V (va_recv hK hP (ci := 2) (q0 := 0) rfl rfl) hG hS (fun q _ h => h.elim) (hP.sub (ws' := [(o 0, .inr (2, mFs o th p0 q0 r0 mu zz)), (o 5, .inl (dA 1, 2640, .inr (.inl fA)))]) [0, 1] rfl)) rfl rfl hl.1 rfl (lv_room (Nat.le_of_ble_eq_true rfl)) dX7_wrongSphere_25 ⟨by first | decide | omega, by first | decide | omega⟩) ?_
        refine lv_if_eq (tgt := 45) hx hb dX7_wrongSphere_28 (by decide) (fun c_28 => ?_) (fun c_28 => ?_)
        · refine lv_iconst (v := nI 2) hx hb dX7_wrongSphere_45 (by decide) ?_
          subst hQe
          exact W.iret (v := nI 2) hx hb hr (fun tz ht hW => ⟨_, rfl, (by unfold wsX wsB; rw [h_t, h_a, rg_n (show ja < 8 by omega), bI_0 c_28, Bool.and_false, Bool.false_and]; rfl), ht⟩) hS.2.2 dX7_wrongSphere_46
        · refine lv_aload_n hx hb dX7_wrongSphere_31 rfl (lv_at hl 0 rfl) ?_
          refine lv_iload_n hx hb dX7_wrongSphere_32 rfl (lv_at hl 2 rfl) ?_
          refine s_l (va_runV (As := [.int (nI ja)]) (rest := []) ⟨hx, hb, hml, hown, hts⟩ (x7_twiceWeight Z o th p0 q0 r0 mu zz fA ja (Ms ja) (by omega) (by omega) (by omega) (hR ja (by omega))) (cwV 1 hts (lw_V q2406 q2408 qs75 q107 q2409) rfl rfl rfl (by decide +kernel) ⟨Nat.le_of_ble_eq_true rfl, Nat.le_of_ble_eq_true rfl⟩) (gP_V (va_recv hK hP (ci := 2) (q0 := 0) rfl rfl) hG hS (fun q _ h => h.elim) (hP.sub (ws' := [(o 0, .inr (2, mFs o th p0 q0 r0 mu zz)), (o 5, .inl (dA 1, 2640, .inr (.inl fA)))]) [0, 1] rfl)) rfl rfl hl.1 rfl (lv_room (Nat.le_of_ble_eq_true rfl)) dX7_wrongSphere_33 ⟨by first | decide | omega, by first | decide | omega⟩) ?_
          refine lv_lconst (v := 0) hx hb dX7_wrongSphere_36 rfl ?_
          refine W.lcmp hx hb dX7_wrongSphere_37 ?_
          refine lv_if_eq (tgt := 45) hx hb dX7_wrongSphere_38 (by decide) (fun c_38 => ?_) (fun c_38 => ?_)
          · have c_38 : (twW p0 (Ms ja)) = 0 := (lg_cmp_eq _ _).mp c_38
            refine lv_iconst (v := nI 2) hx hb dX7_wrongSphere_45 (by decide) ?_
            subst hQe
            exact W.iret (v := nI 2) hx hb hr (fun tz ht hW => ⟨_, rfl, (by unfold wsX wsB; rw [h_t, h_a, rg_n (show ja < 8 by omega), bI_1 c_20, bI_1 c_28, decide_eq_false (p := ¬ twW p0 (Ms ja) = 0) (fun h => h c_38), Bool.and_false]; rfl), ht⟩) hS.2.2 dX7_wrongSphere_46
          · have c_38 : ¬ (twW p0 (Ms ja)) = 0 := fun h => c_38 ((lg_cmp_eq _ _).mpr h)
            refine lv_iconst (v := nI 0) hx hb dX7_wrongSphere_41 (by decide) ?_
            refine lv_goto (tgt := 46) hx hb dX7_wrongSphere_42 (by decide) ?_
            subst hQe
            exact W.iret (v := nI 0) hx hb hr (fun tz ht hW => ⟨_, rfl, (by unfold wsX wsB; rw [h_t, h_a, rg_n (show ja < 8 by omega), bI_1 c_20, bI_1 c_28, decide_eq_true c_38]; rfl), ht⟩) hS.2.2 dX7_wrongSphere_46
    · refine lv_iconst (v := nI 1) hx hb dX7_wrongSphere_14 (by decide) ?_
      subst hQe
      exact W.iret (v := nI 1) hx hb hr (fun tz ht hW => ⟨_, rfl, (by unfold wsX; rw [show rgB a = false from bI_0 c_11, Bool.and_false]; rfl), ht⟩) hS.2.2 dX7_wrongSphere_15
set_option maxHeartbeats 4000000 in
theorem x7_center {l : Launch} {dC : Nat → ClassId} {dI : Nat → Nat → Nat} {dA : Nat → ClassId} {s0 : State} {b0 : Addr} (Z : Z0 l dC dI dA s0 b0) (A : Nat → Prop) (sz : Nat) (hA : ∀ q : Nat, sz ≤ q → A q) (o : Nat → Nat) (th : Int32) (p0 q0 r0 : Nat) (mu : Int64) (zz : Nat → Int32) (fA fM : Nat → Int64) (Ms : Nat → MV) (t : Int32) (a : Int32) (hn : p0 + q0 + r0 ≤ 5) (hR : ∀ k, k < 8 → Hold fA k (Ms k)) (sR : ∀ k, k < 8 → MSm (Ms k)) : Met l yX7_center (ws_ yX7_center cX7_center 9 (some .int)) ({ frames := 6, cells := 0, slots := 0, locals := 360 } : Room) (gP [.ref (o 0), .int t, .int a] s0 A (fun H => H.size = sz ∧ va_P (dC, dI) vwCl [(o 0, .inr (2, mFs o th p0 q0 r0 mu zz)), (o 5, .inl (dA 1, 2640, .inr (.inl fA))), (o 6, .inl (dA 1, 32, .inr (.inl fM)))] H ∧ va_D A [(o 0, .inr (2, mFs o th p0 q0 r0 mu zz)), (o 5, .inl (dA 1, 2640, .inr (.inl fA))), (o 6, .inl (dA 1, 32, .inr (.inl fM)))])) (va_Qi (S := (Nat → Int64) × (Nat → Int64) × Int64 × Int32) (fun r u => ModPost fA (rg t) (ceX p0 q0 r0 Ms t a) u.2.2.2 r u.1) (B1 (dC, dI) A (fun u => mC dA o u.2.2.2 p0 q0 r0 u.2.2.1 zz u.1 u.2.1) (fun _ _ => True)) A) 0 0 A := by
  refine Met.ofW (cc := cX7_center) (maxL := 9) (ret := (some .int)) (by decide) rfl ?_
  intro p e s m args below meth c s₁ B hml hv
  obtain ⟨hav, hG, hsz, hP, hD⟩ := hv
  have hx := B.exec
  have hb := B.bytes
  have hr := B.returns
  have hts := atoms_spec (ws := (ws_ yX7_center cX7_center 9 (some .int))) B.pre
  have hts : ∀ w ∈ lw_all, w.before _ s = true := fun w h => hts w (List.mem_cons_of_mem _ h)
  have hown : s.vm.findClass RX7 = some m.cls := findClass_of_methodNamed B.named
  have hlocks := B.notSynchronized
  have hK := hG.K Z
  subst hsz
  have hS : va_S A s.heap s.heap [] := va_S.rf
  have hl := lv_entry ([.ref (o 0), .int t, .int a]) (n := 9) (Nat.le_of_ble_eq_true rfl)
  rw [show entryFrame m args 9 = entryFrame m ([.ref (o 0), .int t, .int a] : List Value).toArray 9 from by rw [hav], lg_entry_eq]
  generalize (lg_sl ([.ref (o 0), .int t, .int a]) ++ List.replicate (9 - (lg_sl ([.ref (o 0), .int t, .int a])).length) Slot.unset).toArray = ls at hl ⊢
  have hl : lv_has ls 9 [(0, .ref (o 0)), (1, .int t), (2, .int a)] := hl
  generalize hQe : MQ below _ _ s _ _ _ = Q
  change W p l e ({ frames := 6, cells := 0, slots := 0, locals := 360 } : Room) s m args below meth c s.heap [] 0 0 Q (F0 m 0 ls [])
  refine lv_aload_n hx hb dX7_center_0 rfl (lv_at hl 0 rfl) ?_
  refine lv_iload_n hx hb dX7_center_1 rfl (lv_at hl 1 rfl) ?_
  refine lv_iload_n hx hb dX7_center_2 rfl (lv_at hl 2 rfl) ?_
  refine s_i (va_runV (As := [.int t, .int a]) (rest := []) ⟨hx, hb, hml, hown, hts⟩ (x7_wrongSphere Z o th p0 q0 r0 mu zz fA Ms t a hn hR) (cwV 2 hts (lw_V q2402 q2404 qs74 q107 q2405) rfl rfl rfl (by decide +kernel) ⟨Nat.le_of_ble_eq_true rfl, Nat.le_of_ble_eq_true rfl⟩) (gP_V (va_recv hK hP (ci := 2) (q0 := 0) rfl rfl) hG hS (fun q _ h => h.elim) (hP.sub (ws' := [(o 0, .inr (2, mFs o th p0 q0 r0 mu zz)), (o 5, .inl (dA 1, 2640, .inr (.inl fA)))]) [0, 1] rfl)) rfl rfl hl.1 rfl (lv_room (Nat.le_of_ble_eq_true rfl)) dX7_center_3 ⟨by first | decide | omega, by first | decide | omega⟩) ?_
  refine lv_istore_n (lv' := [(3, .int (wsX p0 q0 r0 Ms t a)), (0, .ref (o 0)), (1, .int t), (2, .int a)]) hx hb dX7_center_6 rfl hl (by decide) rfl (fun ls hl => ?_)
  refine lv_iload_n hx hb dX7_center_7 rfl (lv_at hl 0 rfl) ?_
  refine lv_if_le (tgt := 17) hx hb dX7_center_8 (by decide) (fun c_8 => ?_) (fun c_8 => ?_)
  · have h_w := ws_0 c_8
    obtain ⟨h_t, h_a, h_s⟩ := ws_ok h_w
    obtain ⟨jt, hj_t, rfl⟩ := inB_nat (by decide) h_t
    obtain ⟨ja, hj_a, rfl⟩ := inB_nat (by decide) h_a
    rw [rg_n (show ja < 8 by omega)] at h_s
    obtain ⟨h_cf, h_tw⟩ := ws_s h_s
    have hcf := cf_p h_cf
    refine lv_aload_n hx hb dX7_center_17 rfl (lv_at hl 1 rfl) ?_
    refine lv_iload_n hx hb dX7_center_18 rfl (lv_at hl 3 rfl) ?_
    refine s_l (va_runV (As := [.int (nI ja)]) (rest := []) ⟨hx, hb, hml, hown, hts⟩ (x7_twiceWeight Z o th p0 q0 r0 mu zz fA ja (Ms ja) (by omega) (by omega) (by omega) (hR ja (by omega))) (cwV 1 hts (lw_V q2406 q2408 qs75 q107 q2409) rfl rfl rfl (by decide +kernel) ⟨Nat.le_of_ble_eq_true rfl, Nat.le_of_ble_eq_true rfl⟩) (gP_V (va_recv hK hP (ci := 2) (q0 := 0) rfl rfl) hG hS (fun q _ h => h.elim) (hP.sub (ws' := [(o 0, .inr (2, mFs o th p0 q0 r0 mu zz)), (o 5, .inl (dA 1, 2640, .inr (.inl fA)))]) [0, 1] rfl)) rfl rfl hl.1 rfl (lv_room (Nat.le_of_ble_eq_true rfl)) dX7_center_19 ⟨by first | decide | omega, by first | decide | omega⟩) ?_
    refine lv_lstore (lv' := [(4, .long (twW p0 (Ms ja))), (3, .int (wsX p0 q0 r0 Ms (nI jt) (nI ja))), (0, .ref (o 0)), (1, .int (nI jt)), (2, .int (nI ja))]) hx hb dX7_center_22 hl (by decide) rfl (fun ls hl => ?_)
    have J_1 : ∀  (H : Heap) (locs : List Loc) (ls : Array Slot), va_P (dC, dI) vwCl [(o 0, .inr (2, mFs o th p0 q0 r0 mu zz)), (o 5, .inl (dA 1, 2640, .inr (.inl fA))), (o 6, .inl (dA 1, 32, .inr (.inl fM)))] H → va_D A [(o 0, .inr (2, mFs o th p0 q0 r0 mu zz)), (o 5, .inl (dA 1, 2640, .inr (.inl fA))), (o 6, .inl (dA 1, 32, .inr (.inl fM)))] → va_S A s.heap H locs → lv_has ls 9 [(4, .long (twW p0 (Ms ja))), (3, .int (wsX p0 q0 r0 Ms (nI jt) (nI ja))), (0, .ref (o 0)), (1, .int (nI jt)), (2, .int (nI ja))] → W p l e ({ frames := 6, cells := 0, slots := 0, locals := 360 } : Room) s m args below meth c H locs 0 0 Q (F0 m 38 ls [.long (sgL (twW p0 (Ms ja)))]) := by
      intro  H locs ls  hP hD hS hl
      refine lv_lstore (lv' := [(6, .long (sgL (twW p0 (Ms ja)))), (4, .long (twW p0 (Ms ja))), (3, .int (wsX p0 q0 r0 Ms (nI jt) (nI ja))), (0, .ref (o 0)), (1, .int (nI jt)), (2, .int (nI ja))]) hx hb dX7_center_38 hl (by decide) rfl (fun ls hl => ?_)
      refine lv_aload_n hx hb dX7_center_40 rfl (lv_at hl 3 rfl) ?_
      have hF9 := va_free (wc := [(o 0, .inr (2, mFs o th p0 q0 r0 mu zz)), (o 5, .inl (dA 1, 2640, .inr (.inl fA))), (o 6, .inl (dA 1, 32, .inr (.inl fM)))]) hD hS (fun q h => hA q h) [0, 1, 2] rfl
      refine c_v (wr := []) (va_runV (As := []) (rest := []) ⟨hx, hb, hml, hown, hts⟩ (x7_clearsMade Z (va_A [(o 0, .inr (2, mFs o th p0 q0 r0 mu zz)), (o 5, .inl (dA 1, 2640, .inr (.inl fA))), (o 6, .inl (dA 1, 32, .inr (.inl fM)))] H.size) H.size (fun q h => Or.inr h) o th p0 q0 r0 mu zz fA fM) (cwV 0 hts (lw_V q2115 q2117 qs37 q107 q2118) rfl rfl rfl (by decide +kernel) ⟨Nat.le_of_ble_eq_true rfl, Nat.le_of_ble_eq_true rfl⟩) (gP_V (va_recv hK hP (ci := 2) (q0 := 0) rfl rfl) hG hS (fun q _ h => hF9 q h) ⟨rfl, (hP.sub (ws' := [(o 0, .inr (2, mFs o th p0 q0 r0 mu zz)), (o 5, .inl (dA 1, 2640, .inr (.inl fA))), (o 6, .inl (dA 1, 32, .inr (.inl fM)))]) [0, 1, 2] rfl), (hD.sub (ws' := [(o 0, .inr (2, mFs o th p0 q0 r0 mu zz)), (o 5, .inl (dA 1, 2640, .inr (.inl fA))), (o 6, .inl (dA 1, 32, .inr (.inl fM)))]) [0, 1, 2] (by decide) rfl).self⟩) rfl rfl hl.1 rfl (lv_room (Nat.le_of_ble_eq_true rfl)) dX7_center_41 ⟨by first | decide | omega, by first | decide | omega⟩) hP hD hS hA [0, 1, 2] [] rfl rfl (by decide) (by decide) (fun u9 H locs hq hX hz hk hP hD hS => ?_)
      have hP : va_P (dC, dI) vwCl [(o 0, .inr (2, mFs o th p0 q0 r0 1 zz)), (o 5, .inl (dA 1, 2640, .inr (.inl fA))), (o 6, .inl (dA 1, 32, .inr (.inl (fun _ => 0))))] H := hP
      have hD : va_D A [(o 0, .inr (2, mFs o th p0 q0 r0 1 zz)), (o 5, .inl (dA 1, 2640, .inr (.inl fA))), (o 6, .inl (dA 1, 32, .inr (.inl (fun _ => 0))))] := hD
      refine lv_iconst (v := nI 0) hx hb dX7_center_44 (by decide) ?_
      refine lv_istore (lv' := [(8, .int (nI 0)), (6, .long (sgL (twW p0 (Ms ja)))), (4, .long (twW p0 (Ms ja))), (3, .int (wsX p0 q0 r0 Ms (nI jt) (nI ja))), (0, .ref (o 0)), (1, .int (nI jt)), (2, .int (nI ja))]) hx hb dX7_center_45 hl (by decide) rfl (fun ls hl => ?_)
      have e9 : (fun _ => 0 : Nat → Int64) = (pvS (ceV p0 (Ms ja)) 0) := rfl
      rw [e9] at hP hD; clear e9
      have loop_2 : ∀ (n9_2 : Nat) (k : Nat) (H : Heap) (locs : List Loc) (ls : Array Slot), p0 - 1 - k < n9_2 → (k ≤ p0 - 1) → va_P (dC, dI) vwCl [(o 0, .inr (2, mFs o th p0 q0 r0 1 zz)), (o 5, .inl (dA 1, 2640, .inr (.inl fA))), (o 6, .inl (dA 1, 32, .inr (.inl (pvS (ceV p0 (Ms ja)) k))))] H → va_D A [(o 0, .inr (2, mFs o th p0 q0 r0 1 zz)), (o 5, .inl (dA 1, 2640, .inr (.inl fA))), (o 6, .inl (dA 1, 32, .inr (.inl (pvS (ceV p0 (Ms ja)) k))))] → va_S A s.heap H locs → lv_has ls 9 [(0, .ref (o 0)), (1, .int (nI jt)), (2, .int (nI ja)), (3, .int (wsX p0 q0 r0 Ms (nI jt) (nI ja))), (4, .long (twW p0 (Ms ja))), (6, .long (sgL (twW p0 (Ms ja)))), (8, .int (nI k))] → W p l e ({ frames := 6, cells := 0, slots := 0, locals := 360 } : Room) s m args below meth c H locs 0 0 Q (F0 m 47 ls []) := by
        intro n9_2
        induction n9_2 with
        | zero => intro k H locs ls hm_2; exact absurd hm_2 (Nat.not_lt_zero _)
        | succ n9_2 ih_2 =>
          intro k H locs ls hm_2 hk9 hP hD hS hl
          refine lv_iload hx hb dX7_center_47 (lv_at hl 6 rfl) ?_
          refine lv_aload_n hx hb dX7_center_49 rfl (lv_at hl 0 rfl) ?_
          refine s_i (va_runV (As := []) (rest := [.int (nI k)]) ⟨hx, hb, hml, hown, hts⟩ (x7_dimension Z o th p0 q0 r0 1 zz (by omega)) (cwV 0 hts (lw_V q2383 q2385 qs71 q107 q2386) rfl rfl rfl (by decide +kernel) ⟨Nat.le_of_ble_eq_true rfl, Nat.le_of_ble_eq_true rfl⟩) (gP_V (va_recv hK hP (ci := 2) (q0 := 0) rfl rfl) hG hS (fun q _ h => h.elim) (hP.sub (ws' := [(o 0, .inr (2, mFs o th p0 q0 r0 1 zz))]) [0] rfl)) rfl rfl hl.1 rfl (lv_room (Nat.le_of_ble_eq_true rfl)) dX7_center_50 ⟨by first | decide | omega, by first | decide | omega⟩) ?_
          refine lv_icmp_ge (tgt := 83) hx hb dX7_center_53 (by decide) (fun c_53 => ?_) (fun c_53 => ?_)
          · have c_53 : (p0 - 1) ≤ k := (nI_leI (a := (p0 - 1)) (b := k) (by omega) (by omega)).mp c_53
            obtain rfl : k = p0 - 1 := by omega
            refine lv_aload_n hx hb dX7_center_83 rfl (lv_at hl 0 rfl) ?_
            refine lv_lload hx hb dX7_center_84 (lv_at hl 5 rfl) ?_
            refine lv_lload hx hb dX7_center_86 (lv_at hl 4 rfl) ?_
            refine lv_lmul hx hb dX7_center_88 ?_
            refine va_put (D := (dC, dI)) (ci := 2) (v := .long ((sgL (twW p0 (Ms ja))) * (twW p0 (Ms ja)))) (ty := .long) (C := RX7) (T := TX7) (N := 27) hx hb hts in_X7 tyX7 tyX7_ok nmX7 hown hK hP hD hS 0 rfl rfl 10 (by decide) (hts _ q2016) (fun _ h9 => h9) rfl (by decide +kernel) rfl rfl (Nat.le_of_ble_eq_true rfl) dX7_center_89 (fun H locs hP hD hS => ?_)
            have hP : va_P (dC, dI) vwCl [(o 0, .inr (2, mFs o th p0 q0 r0 ((sgL (twW p0 (Ms ja))) * (twW p0 (Ms ja))) zz)), (o 5, .inl (dA 1, 2640, .inr (.inl fA))), (o 6, .inl (dA 1, 32, .inr (.inl (pvS (ceV p0 (Ms ja)) (p0 - 1)))))] H := hP
            have hD : va_D A [(o 0, .inr (2, mFs o th p0 q0 r0 ((sgL (twW p0 (Ms ja))) * (twW p0 (Ms ja))) zz)), (o 5, .inl (dA 1, 2640, .inr (.inl fA))), (o 6, .inl (dA 1, 32, .inr (.inl (pvS (ceV p0 (Ms ja)) (p0 - 1)))))] := hD
            refine lv_aload_n hx hb dX7_center_92 rfl (lv_at hl 0 rfl) ?_
            refine lv_bipush (v := nI 24) hx hb dX7_center_93 (by decide) ?_
            have htw := twW_bd (p := p0) (by omega) (sR ja (by omega))
            have hF9 := va_free (wc := [(o 0, .inr (2, mFs o th p0 q0 r0 ((sgL (twW p0 (Ms ja))) * (twW p0 (Ms ja))) zz)), (o 5, .inl (dA 1, 2640, .inr (.inl fA))), (o 6, .inl (dA 1, 32, .inr (.inl (pvS (ceV p0 (Ms ja)) (p0 - 1)))))]) hD hS (fun q h => hA q h) [0, 1, 2] rfl
            refine c_i (wr := []) (va_runV (As := [.int (nI 24)]) (rest := []) ⟨hx, hb, hml, hown, hts⟩ (x7_puts Z (va_A [(o 0, .inr (2, mFs o th p0 q0 r0 ((sgL (twW p0 (Ms ja))) * (twW p0 (Ms ja))) zz)), (o 5, .inl (dA 1, 2640, .inr (.inl fA))), (o 6, .inl (dA 1, 32, .inr (.inl (pvS (ceV p0 (Ms ja)) (p0 - 1)))))] H.size) H.size (fun q h => Or.inr h) o th p0 q0 r0 ((sgL (twW p0 (Ms ja))) * (twW p0 (Ms ja))) zz fA (pvS (ceV p0 (Ms ja)) (p0 - 1)) 24 (by omega) (sgL_tw htw h_tw) (fun j hj => pv_nm (fun k hk => ceV_nm (sR ja (by omega)) (by omega)) j)) (cwV 1 hts (lw_V q2127 q2129 qs40 q107 q2130) rfl rfl rfl (by decide +kernel) ⟨Nat.le_of_ble_eq_true rfl, Nat.le_of_ble_eq_true rfl⟩) (gP_V (va_recv hK hP (ci := 2) (q0 := 0) rfl rfl) hG hS (fun q _ h => hF9 q h) ⟨rfl, (hP.sub (ws' := [(o 0, .inr (2, mFs o th p0 q0 r0 ((sgL (twW p0 (Ms ja))) * (twW p0 (Ms ja))) zz)), (o 5, .inl (dA 1, 2640, .inr (.inl fA))), (o 6, .inl (dA 1, 32, .inr (.inl (pvS (ceV p0 (Ms ja)) (p0 - 1)))))]) [0, 1, 2] rfl), (hD.sub (ws' := [(o 0, .inr (2, mFs o th p0 q0 r0 ((sgL (twW p0 (Ms ja))) * (twW p0 (Ms ja))) zz)), (o 5, .inl (dA 1, 2640, .inr (.inl fA))), (o 6, .inl (dA 1, 32, .inr (.inl (pvS (ceV p0 (Ms ja)) (p0 - 1)))))]) [0, 1, 2] (by decide) rfl).self⟩) rfl rfl hl.1 rfl (lv_room (Nat.le_of_ble_eq_true rfl)) dX7_center_95 ⟨by first | decide | omega, by first | decide | omega⟩) hP hD hS hA [0, 1, 2] [] rfl rfl (by decide) (by decide) (fun r9 u9 H locs hq hX hz hk hP hD hS => ?_)
            obtain ⟨fA_3, fM_4, mu_5⟩ := u9
            obtain ⟨r_6, rfl⟩ : ∃ z, z = r9 := ⟨_, rfl⟩
            have hq_7 := hq
            try dsimp only at hq_7
            have hP : va_P (dC, dI) vwCl [(o 0, .inr (2, mFs o th p0 q0 r0 mu_5 zz)), (o 5, .inl (dA 1, 2640, .inr (.inl fA_3))), (o 6, .inl (dA 1, 32, .inr (.inl fM_4)))] H := hP
            have hD : va_D A [(o 0, .inr (2, mFs o th p0 q0 r0 mu_5 zz)), (o 5, .inl (dA 1, 2640, .inr (.inl fA_3))), (o 6, .inl (dA 1, 32, .inr (.inl fM_4)))] := hD
            rcases hq_7.cases with ⟨P_8, e_8, rfl, hH_8, hS_8⟩ | ⟨e_8, rfl, hE_8⟩
            · have sm_9 : MSm P_8 := fitS_sm (sgL_tw htw h_tw) e_8
              have hh_10 := hS_8.hold (j := ja) (by omega) (hR ja (by omega))
              refine lv_if_eq (tgt := 111) hx hb dX7_center_98 (by decide) (fun c_98 => ?_) (fun c_98 => ?_)
              · exact absurd c_98 (by decide)
              refine lv_aload_n hx hb dX7_center_101 rfl (lv_at hl 0 rfl) ?_
              refine lv_bipush (v := nI 24) hx hb dX7_center_102 (by decide) ?_
              refine lv_iload_n hx hb dX7_center_104 rfl (lv_at hl 1 rfl) ?_
              have hF9 := va_free (wc := [(o 0, .inr (2, mFs o th p0 q0 r0 mu_5 zz)), (o 5, .inl (dA 1, 2640, .inr (.inl fA_3)))]) hD hS (fun q h => hA q h) [0, 1] rfl
              refine c_i (wr := [(o 6, .inl (dA 1, 32, .inr (.inl fM_4)))]) (va_runV (As := [.int (nI 24), .int (nI jt)]) (rest := []) ⟨hx, hb, hml, hown, hts⟩ (x7_gives Z (va_A [(o 0, .inr (2, mFs o th p0 q0 r0 mu_5 zz)), (o 5, .inl (dA 1, 2640, .inr (.inl fA_3)))] H.size) H.size (fun q h => Or.inr h) o th p0 q0 r0 mu_5 zz fA_3 fM_4 24 jt (by omega) (by omega)) (cwV 2 hts (lw_V q2181 q2183 qs48 q107 q2184) rfl rfl rfl (by decide +kernel) ⟨Nat.le_of_ble_eq_true rfl, Nat.le_of_ble_eq_true rfl⟩) (gP_V (va_recv hK hP (ci := 2) (q0 := 0) rfl rfl) hG hS (fun q _ h => hF9 q h) ⟨rfl, (hP.sub (ws' := [(o 0, .inr (2, mFs o th p0 q0 r0 mu_5 zz)), (o 5, .inl (dA 1, 2640, .inr (.inl fA_3)))]) [0, 1] rfl), (hD.sub (ws' := [(o 0, .inr (2, mFs o th p0 q0 r0 mu_5 zz)), (o 5, .inl (dA 1, 2640, .inr (.inl fA_3)))]) [0, 1] (by decide) rfl).self⟩) rfl rfl hl.1 rfl (lv_room (Nat.le_of_ble_eq_true rfl)) dX7_center_105 ⟨by first | decide | omega, by first | decide | omega⟩) hP hD hS hA [0, 1] [2] rfl rfl (by decide) (by decide) (fun r9 u9 H locs hq hX hz hk hP hD hS => ?_)
              obtain ⟨r_11, rfl⟩ : ∃ z, z = r9 := ⟨_, rfl⟩
              obtain rfl := hq
              have hP : va_P (dC, dI) vwCl [(o 6, .inl (dA 1, 32, .inr (.inl fM_4))), (o 0, .inr (2, mFs o (nI 0) p0 q0 r0 mu_5 zz)), (o 5, .inl (dA 1, 2640, .inr (.inl (cpS fA_3 24 jt))))] H := hP
              have hD : va_D A [(o 6, .inl (dA 1, 32, .inr (.inl fM_4))), (o 0, .inr (2, mFs o (nI 0) p0 q0 r0 mu_5 zz)), (o 5, .inl (dA 1, 2640, .inr (.inl (cpS fA_3 24 jt))))] := hD
              have hc_13 := cpS_hold (t := jt) hH_8
              have hs_14 := cpS_same (fA := fA_3) (k := 24) (t := jt)
              generalize cpS fA_3 24 jt = fA_12 at hP hD hc_13 hs_14 ⊢
              have hh_15 := hs_14.hold (j := 24) (by omega) hH_8
              refine lv_goto (tgt := 116) hx hb dX7_center_108 (by decide) ?_
              subst hQe
              exact W.iret (v := nI (cntN (fun j => fA_12 (33 * jt + 1 + j)) 32)) hx hb hr (fun tz ht hW => ⟨⟨_, (fA_12, fM_4, mu_5, nI 0), rfl, (by rw [rg_n (show jt < 8 by omega)]; exact ModPost.mk1 (P := P_8) (by unfold ceX; rw [if_neg (fun h => h h_w), rg_n (show ja < 8 by omega), e_8]; rfl) hc_13 (fun k9 hk9 i9 hi9 => by (try dsimp only [outH] at hk9); show fA_12 (33 * k9 + i9) = fA (33 * k9 + i9); rw [hs_14 _ (by omega), hS_8 _ (by omega)])), B1_at ht (hP.sub [1, 2, 0] rfl) (hD.sub [1, 2, 0] (by decide) rfl) trivial⟩, hS.F ht⟩) hS.2.2 dX7_center_116
            · have hh_16 : Hold fA_3 ja (Ms ja) := by rw [hE_8]; exact (hR ja (by omega))
              refine lv_if_eq (tgt := 111) hx hb dX7_center_98 (by decide) (fun c_98 => ?_) (fun c_98 => ?_)
              rotate_left
              · exact absurd (by decide) c_98
              refine lv_aload_n hx hb dX7_center_111 rfl (lv_at hl 0 rfl) ?_
              refine lv_iconst (v := nI 3) hx hb dX7_center_112 (by decide) ?_
              have hF9 := va_free (wc := [(o 0, .inr (2, mFs o th p0 q0 r0 mu_5 zz))]) hD hS (fun q h => hA q h) [0] rfl
              refine c_i (wr := [(o 5, .inl (dA 1, 2640, .inr (.inl fA_3))), (o 6, .inl (dA 1, 32, .inr (.inl fM_4)))]) (va_runV (As := [.int (nI 3)]) (rest := []) ⟨hx, hb, hml, hown, hts⟩ (x7_refuses Z (va_A [(o 0, .inr (2, mFs o th p0 q0 r0 mu_5 zz))] H.size) H.size (fun q h => Or.inr h) o th p0 q0 r0 mu_5 zz (nI 3)) (cwV 1 hts (lw_V q2100 q2102 qs34 q107 q2103) rfl rfl rfl (by decide +kernel) ⟨Nat.le_of_ble_eq_true rfl, Nat.le_of_ble_eq_true rfl⟩) (gP_V (va_recv hK hP (ci := 2) (q0 := 0) rfl rfl) hG hS (fun q _ h => hF9 q h) ⟨rfl, (hP.sub (ws' := [(o 0, .inr (2, mFs o th p0 q0 r0 mu_5 zz))]) [0] rfl), (hD.sub (ws' := [(o 0, .inr (2, mFs o th p0 q0 r0 mu_5 zz))]) [0] (by decide) rfl).self⟩) rfl rfl hl.1 rfl (lv_room (Nat.le_of_ble_eq_true rfl)) dX7_center_113 ⟨by first | decide | omega, by first | decide | omega⟩) hP hD hS hA [0] [1, 2] rfl rfl (by decide) (by decide) (fun r9 u9 H locs hq hX hz hk hP hD hS => ?_)
              obtain ⟨r_17, rfl⟩ : ∃ z, z = r9 := ⟨_, rfl⟩
              obtain rfl := hq
              have hP : va_P (dC, dI) vwCl [(o 5, .inl (dA 1, 2640, .inr (.inl fA_3))), (o 6, .inl (dA 1, 32, .inr (.inl fM_4))), (o 0, .inr (2, mFs o (nI 3) p0 q0 r0 mu_5 zz))] H := hP
              have hD : va_D A [(o 5, .inl (dA 1, 2640, .inr (.inl fA_3))), (o 6, .inl (dA 1, 32, .inr (.inl fM_4))), (o 0, .inr (2, mFs o (nI 3) p0 q0 r0 mu_5 zz))] := hD
              subst hQe
              exact W.iret (v := nI 0) hx hb hr (fun tz ht hW => ⟨⟨_, (fA_3, fM_4, mu_5, nI 3), rfl, ModPost.mk0 (c := nI 3) (by unfold ceX; rw [if_neg (fun h => h h_w), rg_n (show ja < 8 by omega), e_8]; rfl) (fun k9 hk9 i9 hi9 => by (try dsimp only [outH] at hk9); show fA_3 (33 * k9 + i9) = fA (33 * k9 + i9); rw [hE_8]), B1_at ht (hP.sub [2, 0, 1] rfl) (hD.sub [2, 0, 1] (by decide) rfl) trivial⟩, hS.F ht⟩) hS.2.2 dX7_center_116
          · have c_53 : ¬ (p0 - 1) ≤ k := fun h => c_53 ((nI_leI (a := (p0 - 1)) (b := k) (by omega) (by omega)).mpr h)
            have hk7 : 2 ^ k < 32 := p5 (by omega)
            refine lv_aload_n hx hb dX7_center_56 rfl (lv_at hl 0 rfl) ?_
            refine va_get (D := (dC, dI)) (ci := 2) (v := .ref (o 6)) (C := RX7) (T := TX7) (N := 27) hx hb hts in_X7 hown hK hP 0 rfl rfl 9 (by decide) (hts _ q2015) (fun _ h9 => h9) rfl dX7_center_57 ?_
            refine lv_iconst (v := nI 1) hx hb dX7_center_60 (by decide) ?_
            refine lv_iload hx hb dX7_center_61 (lv_at hl 6 rfl) ?_
            refine lv_ishl hx hb dX7_center_63 ?_
            refine e_i (y := nI (2 ^ k)) (n_shl1 (by omega)) ?_
            refine lv_lload hx hb dX7_center_64 (lv_at hl 5 rfl) ?_
            refine lv_aload_n hx hb dX7_center_66 rfl (lv_at hl 0 rfl) ?_
            refine lv_iload_n hx hb dX7_center_67 rfl (lv_at hl 2 rfl) ?_
            refine lv_iconst (v := nI 1) hx hb dX7_center_68 (by decide) ?_
            refine lv_iload hx hb dX7_center_69 (lv_at hl 6 rfl) ?_
            refine lv_ishl hx hb dX7_center_71 ?_
            refine e_i (y := nI (2 ^ k)) (n_shl1 (by omega)) ?_
            refine s_l (va_runV (As := [.int (nI ja), .int (nI (2 ^ k))]) (rest := [.long (sgL (twW p0 (Ms ja))), .int (nI (2 ^ k)), .ref (o 6)]) ⟨hx, hb, hml, hown, hts⟩ (x7_of Z o th p0 q0 r0 1 zz fA ja (2 ^ k) (by omega)) (cwV 2 hts (lw_V q2119 q2121 qs38 q107 q2122) rfl rfl rfl (by decide +kernel) ⟨Nat.le_of_ble_eq_true rfl, Nat.le_of_ble_eq_true rfl⟩) (gP_V (va_recv hK hP (ci := 2) (q0 := 0) rfl rfl) hG hS (fun q _ h => h.elim) (hP.sub (ws' := [(o 0, .inr (2, mFs o th p0 q0 r0 1 zz)), (o 5, .inl (dA 1, 2640, .inr (.inl fA)))]) [0, 1] rfl)) rfl rfl hl.1 rfl (lv_room (Nat.le_of_ble_eq_true rfl)) dX7_center_72 ⟨by first | decide | omega, by first | decide | omega⟩) ?_
            refine e_l (y := (Ms ja) ((2 ^ k) + 1)) (hold_at (hR ja (by omega)) (i := (2 ^ k) + 1) (by omega) (by omega)) ?_
            refine lv_lmul hx hb dX7_center_75 ?_
            refine a_last hx hb hK hP hD hS 2 1 rfl rfl (by omega) (by omega) dX7_center_76 (fun H locs hP hD hS => ?_)
            have hP : va_P (dC, dI) vwCl [(o 0, .inr (2, mFs o th p0 q0 r0 1 zz)), (o 5, .inl (dA 1, 2640, .inr (.inl fA))), (o 6, .inl (dA 1, 32, .inr (.inl (vp_updL (pvS (ceV p0 (Ms ja)) k) (2 ^ k) ((sgL (twW p0 (Ms ja))) * ((Ms ja) ((2 ^ k) + 1)))))))] H := hP
            have hD : va_D A [(o 0, .inr (2, mFs o th p0 q0 r0 1 zz)), (o 5, .inl (dA 1, 2640, .inr (.inl fA))), (o 6, .inl (dA 1, 32, .inr (.inl (vp_updL (pvS (ceV p0 (Ms ja)) k) (2 ^ k) ((sgL (twW p0 (Ms ja))) * ((Ms ja) ((2 ^ k) + 1)))))))] := hD
            have e9 : (vp_updL (pvS (ceV p0 (Ms ja)) k) (2 ^ k) ((sgL (twW p0 (Ms ja))) * ((Ms ja) ((2 ^ k) + 1))) : Nat → Int64) = (pvS (ceV p0 (Ms ja)) (k + 1)) := rfl
            rw [e9] at hP hD; clear e9
            refine lv_iinc (v := nI (k + 1)) (lv' := [(8, .int (nI (k + 1))), (0, .ref (o 0)), (1, .int (nI jt)), (2, .int (nI ja)), (3, .int (wsX p0 q0 r0 Ms (nI jt) (nI ja))), (4, .long (twW p0 (Ms ja))), (6, .long (sgL (twW p0 (Ms ja))))]) hx hb dX7_center_77 hl (k := 6) rfl (by exact nI_add _ 1) (by decide) rfl (fun ls hl => ?_)
            refine lv_goto (tgt := 47) hx hb dX7_center_80 (by decide) ?_
            exact ih_2 (k + 1) H locs ls (by omega) (by omega) (hP.sub [0, 1, 2] rfl) (hD.sub [0, 1, 2] (by decide) rfl) hS (lv_sub hl [1, 2, 3, 4, 5, 6, 0] rfl)
      exact loop_2 _ 0 H locs ls (Nat.lt_succ_self _) (by omega) hP hD hS (lv_sub hl [4, 5, 6, 3, 2, 1, 0] rfl)
    refine lv_lload hx hb dX7_center_24 (lv_at hl 0 rfl) ?_
    refine lv_lconst (v := 0) hx hb dX7_center_26 rfl ?_
    refine W.lcmp hx hb dX7_center_27 ?_
    refine lv_if_ge (tgt := 37) hx hb dX7_center_28 (by decide) (fun c_28 => ?_) (fun c_28 => ?_)
    · have c_28 : 0 ≤ (twW p0 (Ms ja)) := (lg_cmp_ge _ _).mp c_28
      refine lv_lconst (v := 1) hx hb dX7_center_37 rfl ?_
      refine e_l (y := sgL (twW p0 (Ms ja))) ((by unfold sgL; rw [if_neg (Int64.not_lt.mpr c_28)])) ?_
      exact J_1  s.heap [] ls  (hP.sub [0, 1, 2] rfl) (hD.sub [0, 1, 2] (by decide) rfl) hS (lv_sub hl [0, 1, 2, 3, 4] rfl)
    · have c_28 : ¬ 0 ≤ (twW p0 (Ms ja)) := fun h => c_28 ((lg_cmp_ge _ _).mpr h)
      refine lv_ldc2 hx hb hown (hts _ q2180) dX7_center_31 ?_
      refine lv_goto (tgt := 38) hx hb dX7_center_34 (by decide) ?_
      refine e_l (y := sgL (twW p0 (Ms ja))) ((by unfold sgL; rw [if_pos (Int64.not_le.mp c_28)])) ?_
      exact J_1  s.heap [] ls  (hP.sub [0, 1, 2] rfl) (hD.sub [0, 1, 2] (by decide) rfl) hS (lv_sub hl [0, 1, 2, 3, 4] rfl)
  · have h_w := ws_n c_8
    refine lv_aload_n hx hb dX7_center_11 rfl (lv_at hl 1 rfl) ?_
    refine lv_iload_n hx hb dX7_center_12 rfl (lv_at hl 0 rfl) ?_
    have hF9 := va_free (wc := [(o 0, .inr (2, mFs o th p0 q0 r0 mu zz))]) hD hS (fun q h => hA q h) [0] rfl
    refine c_i (wr := [(o 5, .inl (dA 1, 2640, .inr (.inl fA))), (o 6, .inl (dA 1, 32, .inr (.inl fM)))]) (va_runV (As := [.int (wsX p0 q0 r0 Ms t a)]) (rest := []) ⟨hx, hb, hml, hown, hts⟩ (x7_refuses Z (va_A [(o 0, .inr (2, mFs o th p0 q0 r0 mu zz))] s.heap.size) s.heap.size (fun q h => Or.inr h) o th p0 q0 r0 mu zz (wsX p0 q0 r0 Ms t a)) (cwV 1 hts (lw_V q2100 q2102 qs34 q107 q2103) rfl rfl rfl (by decide +kernel) ⟨Nat.le_of_ble_eq_true rfl, Nat.le_of_ble_eq_true rfl⟩) (gP_V (va_recv hK hP (ci := 2) (q0 := 0) rfl rfl) hG hS (fun q _ h => hF9 q h) ⟨rfl, (hP.sub (ws' := [(o 0, .inr (2, mFs o th p0 q0 r0 mu zz))]) [0] rfl), (hD.sub (ws' := [(o 0, .inr (2, mFs o th p0 q0 r0 mu zz))]) [0] (by decide) rfl).self⟩) rfl rfl hl.1 rfl (lv_room (Nat.le_of_ble_eq_true rfl)) dX7_center_13 ⟨by first | decide | omega, by first | decide | omega⟩) hP hD hS hA [0] [1, 2] rfl rfl (by decide) (by decide) (fun r9 u9 H locs hq hX hz hk hP hD hS => ?_)
    obtain ⟨r_18, rfl⟩ : ∃ z, z = r9 := ⟨_, rfl⟩
    obtain rfl := hq
    have hP : va_P (dC, dI) vwCl [(o 5, .inl (dA 1, 2640, .inr (.inl fA))), (o 6, .inl (dA 1, 32, .inr (.inl fM))), (o 0, .inr (2, mFs o (wsX p0 q0 r0 Ms t a) p0 q0 r0 mu zz))] H := hP
    have hD : va_D A [(o 5, .inl (dA 1, 2640, .inr (.inl fA))), (o 6, .inl (dA 1, 32, .inr (.inl fM))), (o 0, .inr (2, mFs o (wsX p0 q0 r0 Ms t a) p0 q0 r0 mu zz))] := hD
    subst hQe
    exact W.iret (v := nI 0) hx hb hr (fun tz ht hW => ⟨⟨_, (fA, fM, mu, wsX p0 q0 r0 Ms t a), rfl, ModPost.mk0 (c := wsX p0 q0 r0 Ms t a) (by unfold ceX; rw [if_pos h_w]) (fun k9 hk9 i9 hi9 => rfl), B1_at ht (hP.sub [2, 0, 1] rfl) (hD.sub [2, 0, 1] (by decide) rfl) trivial⟩, hS.F ht⟩) hS.2.2 dX7_center_16
set_option maxHeartbeats 4000000 in
theorem x7_radiusSquare {l : Launch} {dC : Nat → ClassId} {dI : Nat → Nat → Nat} {dA : Nat → ClassId} {s0 : State} {b0 : Addr} (Z : Z0 l dC dI dA s0 b0) (A : Nat → Prop) (sz : Nat) (hA : ∀ q : Nat, sz ≤ q → A q) (o : Nat → Nat) (th : Int32) (p0 q0 r0 : Nat) (mu : Int64) (zz : Nat → Int32) (fA fM : Nat → Int64) (Ms : Nat → MV) (t : Int32) (a : Int32) (hn : p0 + q0 + r0 ≤ 5) (hR : ∀ k, k < 8 → Hold fA k (Ms k)) (sR : ∀ k, k < 8 → MSm (Ms k)) : Met l yX7_radiusSquare (ws_ yX7_radiusSquare cX7_radiusSquare 5 (some .int)) ({ frames := 6, cells := 0, slots := 0, locals := 360 } : Room) (gP [.ref (o 0), .int t, .int a] s0 A (fun H => H.size = sz ∧ va_P (dC, dI) vwCl [(o 0, .inr (2, mFs o th p0 q0 r0 mu zz)), (o 5, .inl (dA 1, 2640, .inr (.inl fA))), (o 6, .inl (dA 1, 32, .inr (.inl fM)))] H ∧ va_D A [(o 0, .inr (2, mFs o th p0 q0 r0 mu zz)), (o 5, .inl (dA 1, 2640, .inr (.inl fA))), (o 6, .inl (dA 1, 32, .inr (.inl fM)))])) (va_Qi (S := (Nat → Int64) × (Nat → Int64) × Int64 × Int32) (fun r u => ModPost fA (rg t) (raX p0 q0 r0 Ms t a) u.2.2.2 r u.1) (B1 (dC, dI) A (fun u => mC dA o u.2.2.2 p0 q0 r0 u.2.2.1 zz u.1 u.2.1) (fun _ _ => True)) A) 0 0 A := by
  refine Met.ofW (cc := cX7_radiusSquare) (maxL := 5) (ret := (some .int)) (by decide) rfl ?_
  intro p e s m args below meth c s₁ B hml hv
  obtain ⟨hav, hG, hsz, hP, hD⟩ := hv
  have hx := B.exec
  have hb := B.bytes
  have hr := B.returns
  have hts := atoms_spec (ws := (ws_ yX7_radiusSquare cX7_radiusSquare 5 (some .int))) B.pre
  have hts : ∀ w ∈ lw_all, w.before _ s = true := fun w h => hts w (List.mem_cons_of_mem _ h)
  have hown : s.vm.findClass RX7 = some m.cls := findClass_of_methodNamed B.named
  have hlocks := B.notSynchronized
  have hK := hG.K Z
  subst hsz
  have hS : va_S A s.heap s.heap [] := va_S.rf
  have hl := lv_entry ([.ref (o 0), .int t, .int a]) (n := 5) (Nat.le_of_ble_eq_true rfl)
  rw [show entryFrame m args 5 = entryFrame m ([.ref (o 0), .int t, .int a] : List Value).toArray 5 from by rw [hav], lg_entry_eq]
  generalize (lg_sl ([.ref (o 0), .int t, .int a]) ++ List.replicate (5 - (lg_sl ([.ref (o 0), .int t, .int a])).length) Slot.unset).toArray = ls at hl ⊢
  have hl : lv_has ls 5 [(0, .ref (o 0)), (1, .int t), (2, .int a)] := hl
  generalize hQe : MQ below _ _ s _ _ _ = Q
  change W p l e ({ frames := 6, cells := 0, slots := 0, locals := 360 } : Room) s m args below meth c s.heap [] 0 0 Q (F0 m 0 ls [])
  refine lv_aload_n hx hb dX7_radiusSquare_0 rfl (lv_at hl 0 rfl) ?_
  refine lv_iload_n hx hb dX7_radiusSquare_1 rfl (lv_at hl 1 rfl) ?_
  refine lv_iload_n hx hb dX7_radiusSquare_2 rfl (lv_at hl 2 rfl) ?_
  refine s_i (va_runV (As := [.int t, .int a]) (rest := []) ⟨hx, hb, hml, hown, hts⟩ (x7_wrongSphere Z o th p0 q0 r0 mu zz fA Ms t a hn hR) (cwV 2 hts (lw_V q2402 q2404 qs74 q107 q2405) rfl rfl rfl (by decide +kernel) ⟨Nat.le_of_ble_eq_true rfl, Nat.le_of_ble_eq_true rfl⟩) (gP_V (va_recv hK hP (ci := 2) (q0 := 0) rfl rfl) hG hS (fun q _ h => h.elim) (hP.sub (ws' := [(o 0, .inr (2, mFs o th p0 q0 r0 mu zz)), (o 5, .inl (dA 1, 2640, .inr (.inl fA)))]) [0, 1] rfl)) rfl rfl hl.1 rfl (lv_room (Nat.le_of_ble_eq_true rfl)) dX7_radiusSquare_3 ⟨by first | decide | omega, by first | decide | omega⟩) ?_
  refine lv_istore_n (lv' := [(3, .int (wsX p0 q0 r0 Ms t a)), (0, .ref (o 0)), (1, .int t), (2, .int a)]) hx hb dX7_radiusSquare_6 rfl hl (by decide) rfl (fun ls hl => ?_)
  refine lv_iload_n hx hb dX7_radiusSquare_7 rfl (lv_at hl 0 rfl) ?_
  refine lv_if_le (tgt := 17) hx hb dX7_radiusSquare_8 (by decide) (fun c_8 => ?_) (fun c_8 => ?_)
  · have h_w := ws_0 c_8
    obtain ⟨h_t, h_a, h_s⟩ := ws_ok h_w
    obtain ⟨jt, hj_t, rfl⟩ := inB_nat (by decide) h_t
    obtain ⟨ja, hj_a, rfl⟩ := inB_nat (by decide) h_a
    rw [rg_n (show ja < 8 by omega)] at h_s
    obtain ⟨h_cf, h_tw⟩ := ws_s h_s
    have hcf := cf_p h_cf
    refine lv_aload_n hx hb dX7_radiusSquare_17 rfl (lv_at hl 1 rfl) ?_
    refine lv_bipush (v := nI 6) hx hb dX7_radiusSquare_18 (by decide) ?_
    refine lv_iload_n hx hb dX7_radiusSquare_20 rfl (lv_at hl 3 rfl) ?_
    refine lv_iload_n hx hb dX7_radiusSquare_21 rfl (lv_at hl 3 rfl) ?_
    refine lv_bipush (v := nI 25) hx hb dX7_radiusSquare_22 (by decide) ?_
    have hF9 := va_free (wc := [(o 0, .inr (2, mFs o th p0 q0 r0 mu zz)), (o 5, .inl (dA 1, 2640, .inr (.inl fA))), (o 6, .inl (dA 1, 32, .inr (.inl fM)))]) hD hS (fun q h => hA q h) [0, 1, 2] rfl
    refine c_i (wr := []) (va_runV (As := [.int (nI 6), .int (nI ja), .int (nI ja), .int (nI 25)]) (rest := []) ⟨hx, hb, hml, hown, hts⟩ (x7_multiplies Z (va_A [(o 0, .inr (2, mFs o th p0 q0 r0 mu zz)), (o 5, .inl (dA 1, 2640, .inr (.inl fA))), (o 6, .inl (dA 1, 32, .inr (.inl fM)))] s.heap.size) s.heap.size (fun q h => Or.inr h) o th p0 q0 r0 mu zz fA fM 6 ja ja 25 (Ms ja) (Ms ja) hn (by omega) (by omega) (by omega) (by omega) (by omega) (hR ja (by omega)) (hR ja (by omega)) (sR ja (by omega)) (sR ja (by omega))) (cwV 4 hts (lw_V q2168 q2170 qs46 q107 q2171) rfl rfl rfl (by decide +kernel) ⟨Nat.le_of_ble_eq_true rfl, Nat.le_of_ble_eq_true rfl⟩) (gP_V (va_recv hK hP (ci := 2) (q0 := 0) rfl rfl) hG hS (fun q _ h => hF9 q h) ⟨rfl, (hP.sub (ws' := [(o 0, .inr (2, mFs o th p0 q0 r0 mu zz)), (o 5, .inl (dA 1, 2640, .inr (.inl fA))), (o 6, .inl (dA 1, 32, .inr (.inl fM)))]) [0, 1, 2] rfl), (hD.sub (ws' := [(o 0, .inr (2, mFs o th p0 q0 r0 mu zz)), (o 5, .inl (dA 1, 2640, .inr (.inl fA))), (o 6, .inl (dA 1, 32, .inr (.inl fM)))]) [0, 1, 2] (by decide) rfl).self⟩) rfl rfl hl.1 rfl (lv_room (Nat.le_of_ble_eq_true rfl)) dX7_radiusSquare_24 ⟨by first | decide | omega, by first | decide | omega⟩) hP hD hS hA [0, 1, 2] [] rfl rfl (by decide) (by decide) (fun r9 u9 H locs hq hX hz hk hP hD hS => ?_)
    obtain ⟨fA_1, fM_2, mu_3⟩ := u9
    obtain ⟨r_4, rfl⟩ : ∃ z, z = r9 := ⟨_, rfl⟩
    have hq_5 := hq
    try dsimp only at hq_5
    have hP : va_P (dC, dI) vwCl [(o 0, .inr (2, mFs o th p0 q0 r0 mu_3 zz)), (o 5, .inl (dA 1, 2640, .inr (.inl fA_1))), (o 6, .inl (dA 1, 32, .inr (.inl fM_2)))] H := hP
    have hD : va_D A [(o 0, .inr (2, mFs o th p0 q0 r0 mu_3 zz)), (o 5, .inl (dA 1, 2640, .inr (.inl fA_1))), (o 6, .inl (dA 1, 32, .inr (.inl fM_2)))] := hD
    rcases hq_5.cases with ⟨P_6, e_6, rfl, hH_6, hS_6⟩ | ⟨e_6, rfl, hE_6⟩
    · have sm_7 : MSm P_6 := mulS_sm (sR ja (by omega)) (sR ja (by omega)) e_6
      have hh_8 := hS_6.hold (j := ja) (by omega) (hR ja (by omega))
      refine lv_if_ne (tgt := 36) hx hb dX7_radiusSquare_27 (by decide) (fun c_27 => ?_) (fun c_27 => ?_)
      rotate_left
      · exact absurd c_27 (by decide)
      refine lv_aload_n hx hb dX7_radiusSquare_36 rfl (lv_at hl 1 rfl) ?_
      have hF9 := va_free (wc := [(o 0, .inr (2, mFs o th p0 q0 r0 mu_3 zz)), (o 5, .inl (dA 1, 2640, .inr (.inl fA_1))), (o 6, .inl (dA 1, 32, .inr (.inl fM_2)))]) hD hS (fun q h => hA q h) [0, 1, 2] rfl
      refine c_v (wr := []) (va_runV (As := []) (rest := []) ⟨hx, hb, hml, hown, hts⟩ (x7_clearsMade Z (va_A [(o 0, .inr (2, mFs o th p0 q0 r0 mu_3 zz)), (o 5, .inl (dA 1, 2640, .inr (.inl fA_1))), (o 6, .inl (dA 1, 32, .inr (.inl fM_2)))] H.size) H.size (fun q h => Or.inr h) o th p0 q0 r0 mu_3 zz fA_1 fM_2) (cwV 0 hts (lw_V q2115 q2117 qs37 q107 q2118) rfl rfl rfl (by decide +kernel) ⟨Nat.le_of_ble_eq_true rfl, Nat.le_of_ble_eq_true rfl⟩) (gP_V (va_recv hK hP (ci := 2) (q0 := 0) rfl rfl) hG hS (fun q _ h => hF9 q h) ⟨rfl, (hP.sub (ws' := [(o 0, .inr (2, mFs o th p0 q0 r0 mu_3 zz)), (o 5, .inl (dA 1, 2640, .inr (.inl fA_1))), (o 6, .inl (dA 1, 32, .inr (.inl fM_2)))]) [0, 1, 2] rfl), (hD.sub (ws' := [(o 0, .inr (2, mFs o th p0 q0 r0 mu_3 zz)), (o 5, .inl (dA 1, 2640, .inr (.inl fA_1))), (o 6, .inl (dA 1, 32, .inr (.inl fM_2)))]) [0, 1, 2] (by decide) rfl).self⟩) rfl rfl hl.1 rfl (lv_room (Nat.le_of_ble_eq_true rfl)) dX7_radiusSquare_37 ⟨by first | decide | omega, by first | decide | omega⟩) hP hD hS hA [0, 1, 2] [] rfl rfl (by decide) (by decide) (fun u9 H locs hq hX hz hk hP hD hS => ?_)
      have hP : va_P (dC, dI) vwCl [(o 0, .inr (2, mFs o th p0 q0 r0 1 zz)), (o 5, .inl (dA 1, 2640, .inr (.inl fA_1))), (o 6, .inl (dA 1, 32, .inr (.inl (fun _ => 0))))] H := hP
      have hD : va_D A [(o 0, .inr (2, mFs o th p0 q0 r0 1 zz)), (o 5, .inl (dA 1, 2640, .inr (.inl fA_1))), (o 6, .inl (dA 1, 32, .inr (.inl (fun _ => 0))))] := hD
      refine lv_iconst (v := nI 0) hx hb dX7_radiusSquare_40 (by decide) ?_
      refine lv_istore (lv' := [(4, .int (nI 0)), (3, .int (wsX p0 q0 r0 Ms (nI jt) (nI ja))), (0, .ref (o 0)), (1, .int (nI jt)), (2, .int (nI ja))]) hx hb dX7_radiusSquare_41 hl (by decide) rfl (fun ls hl => ?_)
      have e9 : (fun _ => 0 : Nat → Int64) = (raR p0 q0 r0 (Ms ja) 0) := (by funext j; unfold raR; split <;> rfl)
      rw [e9] at hP hD; clear e9
      have loop_9 : ∀ (n9_9 : Nat) (k : Nat) (H : Heap) (locs : List Loc) (ls : Array Slot), p0 + q0 + r0 - k < n9_9 → (k ≤ p0 + q0 + r0) → va_P (dC, dI) vwCl [(o 0, .inr (2, mFs o th p0 q0 r0 1 zz)), (o 5, .inl (dA 1, 2640, .inr (.inl fA_1))), (o 6, .inl (dA 1, 32, .inr (.inl (raR p0 q0 r0 (Ms ja) k))))] H → va_D A [(o 0, .inr (2, mFs o th p0 q0 r0 1 zz)), (o 5, .inl (dA 1, 2640, .inr (.inl fA_1))), (o 6, .inl (dA 1, 32, .inr (.inl (raR p0 q0 r0 (Ms ja) k))))] → va_S A s.heap H locs → lv_has ls 5 [(0, .ref (o 0)), (1, .int (nI jt)), (2, .int (nI ja)), (3, .int (wsX p0 q0 r0 Ms (nI jt) (nI ja))), (4, .int (nI k))] → W p l e ({ frames := 6, cells := 0, slots := 0, locals := 360 } : Room) s m args below meth c H locs 0 0 Q (F0 m 43 ls []) := by
        intro n9_9
        induction n9_9 with
        | zero => intro k H locs ls hm_9; exact absurd hm_9 (Nat.not_lt_zero _)
        | succ n9_9 ih_9 =>
          intro k H locs ls hm_9 hk9 hP hD hS hl
          refine lv_iload hx hb dX7_radiusSquare_43 (lv_at hl 4 rfl) ?_
          refine lv_aload_n hx hb dX7_radiusSquare_45 rfl (lv_at hl 0 rfl) ?_
          refine s_i (va_runV (As := []) (rest := [.int (nI k)]) ⟨hx, hb, hml, hown, hts⟩ (x7_n Z o th p0 q0 r0 1 zz) (cwV 0 hts (lw_V q2151 q2153 qs44 q107 q2154) rfl rfl rfl (by decide +kernel) ⟨Nat.le_of_ble_eq_true rfl, Nat.le_of_ble_eq_true rfl⟩) (gP_V (va_recv hK hP (ci := 2) (q0 := 0) rfl rfl) hG hS (fun q _ h => h.elim) (hP.sub (ws' := [(o 0, .inr (2, mFs o th p0 q0 r0 1 zz))]) [0] rfl)) rfl rfl hl.1 rfl (lv_room (Nat.le_of_ble_eq_true rfl)) dX7_radiusSquare_46 ⟨by first | decide | omega, by first | decide | omega⟩) ?_
          refine lv_icmp_ge (tgt := 100) hx hb dX7_radiusSquare_49 (by decide) (fun c_49 => ?_) (fun c_49 => ?_)
          · have c_49 : (p0 + q0 + r0) ≤ k := (nI_leI (a := (p0 + q0 + r0)) (b := k) (by omega) (by omega)).mp c_49
            obtain rfl : k = p0 + q0 + r0 := by omega
            refine lv_aload_n hx hb dX7_radiusSquare_100 rfl (lv_at hl 0 rfl) ?_
            refine lv_aload_n hx hb dX7_radiusSquare_101 rfl (lv_at hl 0 rfl) ?_
            refine lv_iload_n hx hb dX7_radiusSquare_102 rfl (lv_at hl 2 rfl) ?_
            refine s_l (va_runV (As := [.int (nI ja)]) (rest := [.ref (o 0)]) ⟨hx, hb, hml, hown, hts⟩ (x7_twiceWeight Z o th p0 q0 r0 1 zz fA_1 ja (Ms ja) (by omega) (by omega) (by omega) hh_8) (cwV 1 hts (lw_V q2406 q2408 qs75 q107 q2409) rfl rfl rfl (by decide +kernel) ⟨Nat.le_of_ble_eq_true rfl, Nat.le_of_ble_eq_true rfl⟩) (gP_V (va_recv hK hP (ci := 2) (q0 := 0) rfl rfl) hG hS (fun q _ h => h.elim) (hP.sub (ws' := [(o 0, .inr (2, mFs o th p0 q0 r0 1 zz)), (o 5, .inl (dA 1, 2640, .inr (.inl fA_1)))]) [0, 1] rfl)) rfl rfl hl.1 rfl (lv_room (Nat.le_of_ble_eq_true rfl)) dX7_radiusSquare_103 ⟨by first | decide | omega, by first | decide | omega⟩) ?_
            refine lv_aload_n hx hb dX7_radiusSquare_106 rfl (lv_at hl 0 rfl) ?_
            refine lv_iload_n hx hb dX7_radiusSquare_107 rfl (lv_at hl 2 rfl) ?_
            refine s_l (va_runV (As := [.int (nI ja)]) (rest := [.long (twW p0 (Ms ja)), .ref (o 0)]) ⟨hx, hb, hml, hown, hts⟩ (x7_twiceWeight Z o th p0 q0 r0 1 zz fA_1 ja (Ms ja) (by omega) (by omega) (by omega) hh_8) (cwV 1 hts (lw_V q2406 q2408 qs75 q107 q2409) rfl rfl rfl (by decide +kernel) ⟨Nat.le_of_ble_eq_true rfl, Nat.le_of_ble_eq_true rfl⟩) (gP_V (va_recv hK hP (ci := 2) (q0 := 0) rfl rfl) hG hS (fun q _ h => h.elim) (hP.sub (ws' := [(o 0, .inr (2, mFs o th p0 q0 r0 1 zz)), (o 5, .inl (dA 1, 2640, .inr (.inl fA_1)))]) [0, 1] rfl)) rfl rfl hl.1 rfl (lv_room (Nat.le_of_ble_eq_true rfl)) dX7_radiusSquare_108 ⟨by first | decide | omega, by first | decide | omega⟩) ?_
            refine lv_lmul hx hb dX7_radiusSquare_111 ?_
            refine va_put (D := (dC, dI)) (ci := 2) (v := .long ((twW p0 (Ms ja)) * (twW p0 (Ms ja)))) (ty := .long) (C := RX7) (T := TX7) (N := 27) hx hb hts in_X7 tyX7 tyX7_ok nmX7 hown hK hP hD hS 0 rfl rfl 10 (by decide) (hts _ q2016) (fun _ h9 => h9) rfl (by decide +kernel) rfl rfl (Nat.le_of_ble_eq_true rfl) dX7_radiusSquare_112 (fun H locs hP hD hS => ?_)
            have hP : va_P (dC, dI) vwCl [(o 0, .inr (2, mFs o th p0 q0 r0 ((twW p0 (Ms ja)) * (twW p0 (Ms ja))) zz)), (o 5, .inl (dA 1, 2640, .inr (.inl fA_1))), (o 6, .inl (dA 1, 32, .inr (.inl (raR p0 q0 r0 (Ms ja) (p0 + q0 + r0)))))] H := hP
            have hD : va_D A [(o 0, .inr (2, mFs o th p0 q0 r0 ((twW p0 (Ms ja)) * (twW p0 (Ms ja))) zz)), (o 5, .inl (dA 1, 2640, .inr (.inl fA_1))), (o 6, .inl (dA 1, 32, .inr (.inl (raR p0 q0 r0 (Ms ja) (p0 + q0 + r0)))))] := hD
            refine lv_aload_n hx hb dX7_radiusSquare_115 rfl (lv_at hl 0 rfl) ?_
            refine lv_bipush (v := nI 24) hx hb dX7_radiusSquare_116 (by decide) ?_
            have htw := twW_bd (p := p0) (by omega) (sR ja (by omega))
            have hF9 := va_free (wc := [(o 0, .inr (2, mFs o th p0 q0 r0 ((twW p0 (Ms ja)) * (twW p0 (Ms ja))) zz)), (o 5, .inl (dA 1, 2640, .inr (.inl fA_1))), (o 6, .inl (dA 1, 32, .inr (.inl (raR p0 q0 r0 (Ms ja) (p0 + q0 + r0)))))]) hD hS (fun q h => hA q h) [0, 1, 2] rfl
            refine c_i (wr := []) (va_runV (As := [.int (nI 24)]) (rest := []) ⟨hx, hb, hml, hown, hts⟩ (x7_puts Z (va_A [(o 0, .inr (2, mFs o th p0 q0 r0 ((twW p0 (Ms ja)) * (twW p0 (Ms ja))) zz)), (o 5, .inl (dA 1, 2640, .inr (.inl fA_1))), (o 6, .inl (dA 1, 32, .inr (.inl (raR p0 q0 r0 (Ms ja) (p0 + q0 + r0)))))] H.size) H.size (fun q h => Or.inr h) o th p0 q0 r0 ((twW p0 (Ms ja)) * (twW p0 (Ms ja))) zz fA_1 (raR p0 q0 r0 (Ms ja) (p0 + q0 + r0)) 24 (by omega) (tw_sq htw h_tw) (fun j hj => raR_nm (sR ja (by omega)) hn j)) (cwV 1 hts (lw_V q2127 q2129 qs40 q107 q2130) rfl rfl rfl (by decide +kernel) ⟨Nat.le_of_ble_eq_true rfl, Nat.le_of_ble_eq_true rfl⟩) (gP_V (va_recv hK hP (ci := 2) (q0 := 0) rfl rfl) hG hS (fun q _ h => hF9 q h) ⟨rfl, (hP.sub (ws' := [(o 0, .inr (2, mFs o th p0 q0 r0 ((twW p0 (Ms ja)) * (twW p0 (Ms ja))) zz)), (o 5, .inl (dA 1, 2640, .inr (.inl fA_1))), (o 6, .inl (dA 1, 32, .inr (.inl (raR p0 q0 r0 (Ms ja) (p0 + q0 + r0)))))]) [0, 1, 2] rfl), (hD.sub (ws' := [(o 0, .inr (2, mFs o th p0 q0 r0 ((twW p0 (Ms ja)) * (twW p0 (Ms ja))) zz)), (o 5, .inl (dA 1, 2640, .inr (.inl fA_1))), (o 6, .inl (dA 1, 32, .inr (.inl (raR p0 q0 r0 (Ms ja) (p0 + q0 + r0)))))]) [0, 1, 2] (by decide) rfl).self⟩) rfl rfl hl.1 rfl (lv_room (Nat.le_of_ble_eq_true rfl)) dX7_radiusSquare_118 ⟨by first | decide | omega, by first | decide | omega⟩) hP hD hS hA [0, 1, 2] [] rfl rfl (by decide) (by decide) (fun r9 u9 H locs hq hX hz hk hP hD hS => ?_)
            obtain ⟨fA_10, fM_11, mu_12⟩ := u9
            obtain ⟨r_13, rfl⟩ : ∃ z, z = r9 := ⟨_, rfl⟩
            have hq_14 := hq
            try dsimp only at hq_14
            have hP : va_P (dC, dI) vwCl [(o 0, .inr (2, mFs o th p0 q0 r0 mu_12 zz)), (o 5, .inl (dA 1, 2640, .inr (.inl fA_10))), (o 6, .inl (dA 1, 32, .inr (.inl fM_11)))] H := hP
            have hD : va_D A [(o 0, .inr (2, mFs o th p0 q0 r0 mu_12 zz)), (o 5, .inl (dA 1, 2640, .inr (.inl fA_10))), (o 6, .inl (dA 1, 32, .inr (.inl fM_11)))] := hD
            rcases hq_14.cases with ⟨P_15, e_15, rfl, hH_15, hS_15⟩ | ⟨e_15, rfl, hE_15⟩
            · have sm_16 : MSm P_15 := fitS_sm (tw_sq htw h_tw) e_15
              have hh_17 := hS_15.hold (j := ja) (by omega) hh_8
              have hh_18 := hS_15.hold (j := 25) (by omega) hH_6
              refine lv_if_eq (tgt := 134) hx hb dX7_radiusSquare_121 (by decide) (fun c_121 => ?_) (fun c_121 => ?_)
              · exact absurd c_121 (by decide)
              refine lv_aload_n hx hb dX7_radiusSquare_124 rfl (lv_at hl 0 rfl) ?_
              refine lv_bipush (v := nI 24) hx hb dX7_radiusSquare_125 (by decide) ?_
              refine lv_iload_n hx hb dX7_radiusSquare_127 rfl (lv_at hl 1 rfl) ?_
              have hF9 := va_free (wc := [(o 0, .inr (2, mFs o th p0 q0 r0 mu_12 zz)), (o 5, .inl (dA 1, 2640, .inr (.inl fA_10)))]) hD hS (fun q h => hA q h) [0, 1] rfl
              refine c_i (wr := [(o 6, .inl (dA 1, 32, .inr (.inl fM_11)))]) (va_runV (As := [.int (nI 24), .int (nI jt)]) (rest := []) ⟨hx, hb, hml, hown, hts⟩ (x7_gives Z (va_A [(o 0, .inr (2, mFs o th p0 q0 r0 mu_12 zz)), (o 5, .inl (dA 1, 2640, .inr (.inl fA_10)))] H.size) H.size (fun q h => Or.inr h) o th p0 q0 r0 mu_12 zz fA_10 fM_11 24 jt (by omega) (by omega)) (cwV 2 hts (lw_V q2181 q2183 qs48 q107 q2184) rfl rfl rfl (by decide +kernel) ⟨Nat.le_of_ble_eq_true rfl, Nat.le_of_ble_eq_true rfl⟩) (gP_V (va_recv hK hP (ci := 2) (q0 := 0) rfl rfl) hG hS (fun q _ h => hF9 q h) ⟨rfl, (hP.sub (ws' := [(o 0, .inr (2, mFs o th p0 q0 r0 mu_12 zz)), (o 5, .inl (dA 1, 2640, .inr (.inl fA_10)))]) [0, 1] rfl), (hD.sub (ws' := [(o 0, .inr (2, mFs o th p0 q0 r0 mu_12 zz)), (o 5, .inl (dA 1, 2640, .inr (.inl fA_10)))]) [0, 1] (by decide) rfl).self⟩) rfl rfl hl.1 rfl (lv_room (Nat.le_of_ble_eq_true rfl)) dX7_radiusSquare_128 ⟨by first | decide | omega, by first | decide | omega⟩) hP hD hS hA [0, 1] [2] rfl rfl (by decide) (by decide) (fun r9 u9 H locs hq hX hz hk hP hD hS => ?_)
              obtain ⟨r_19, rfl⟩ : ∃ z, z = r9 := ⟨_, rfl⟩
              obtain rfl := hq
              have hP : va_P (dC, dI) vwCl [(o 6, .inl (dA 1, 32, .inr (.inl fM_11))), (o 0, .inr (2, mFs o (nI 0) p0 q0 r0 mu_12 zz)), (o 5, .inl (dA 1, 2640, .inr (.inl (cpS fA_10 24 jt))))] H := hP
              have hD : va_D A [(o 6, .inl (dA 1, 32, .inr (.inl fM_11))), (o 0, .inr (2, mFs o (nI 0) p0 q0 r0 mu_12 zz)), (o 5, .inl (dA 1, 2640, .inr (.inl (cpS fA_10 24 jt))))] := hD
              have hc_21 := cpS_hold (t := jt) hH_15
              have hs_22 := cpS_same (fA := fA_10) (k := 24) (t := jt)
              generalize cpS fA_10 24 jt = fA_20 at hP hD hc_21 hs_22 ⊢
              have hh_23 := hs_22.hold (j := 25) (by omega) hh_18
              have hh_24 := hs_22.hold (j := 24) (by omega) hH_15
              refine lv_goto (tgt := 139) hx hb dX7_radiusSquare_131 (by decide) ?_
              subst hQe
              exact W.iret (v := nI (cntN (fun j => fA_20 (33 * jt + 1 + j)) 32)) hx hb hr (fun tz ht hW => ⟨⟨_, (fA_20, fM_11, mu_12, nI 0), rfl, (by rw [rg_n (show jt < 8 by omega)]; exact ModPost.mk1 (P := P_15) (by unfold raX; rw [if_neg (fun h => h h_w), rg_n (show ja < 8 by omega)]; simp only [optC, e_6, e_15]) hc_21 (fun k9 hk9 i9 hi9 => by (try dsimp only [outH] at hk9); show fA_20 (33 * k9 + i9) = fA (33 * k9 + i9); rw [hs_22 _ (by omega), hS_15 _ (by omega), hS_6 _ (by omega)])), B1_at ht (hP.sub [1, 2, 0] rfl) (hD.sub [1, 2, 0] (by decide) rfl) trivial⟩, hS.F ht⟩) hS.2.2 dX7_radiusSquare_139
            · have hh_25 : Hold fA_10 ja (Ms ja) := by rw [hE_15]; exact hh_8
              have hh_26 : Hold fA_10 25 P_6 := by rw [hE_15]; exact hH_6
              refine lv_if_eq (tgt := 134) hx hb dX7_radiusSquare_121 (by decide) (fun c_121 => ?_) (fun c_121 => ?_)
              rotate_left
              · exact absurd (by decide) c_121
              refine lv_aload_n hx hb dX7_radiusSquare_134 rfl (lv_at hl 0 rfl) ?_
              refine lv_iconst (v := nI 3) hx hb dX7_radiusSquare_135 (by decide) ?_
              have hF9 := va_free (wc := [(o 0, .inr (2, mFs o th p0 q0 r0 mu_12 zz))]) hD hS (fun q h => hA q h) [0] rfl
              refine c_i (wr := [(o 5, .inl (dA 1, 2640, .inr (.inl fA_10))), (o 6, .inl (dA 1, 32, .inr (.inl fM_11)))]) (va_runV (As := [.int (nI 3)]) (rest := []) ⟨hx, hb, hml, hown, hts⟩ (x7_refuses Z (va_A [(o 0, .inr (2, mFs o th p0 q0 r0 mu_12 zz))] H.size) H.size (fun q h => Or.inr h) o th p0 q0 r0 mu_12 zz (nI 3)) (cwV 1 hts (lw_V q2100 q2102 qs34 q107 q2103) rfl rfl rfl (by decide +kernel) ⟨Nat.le_of_ble_eq_true rfl, Nat.le_of_ble_eq_true rfl⟩) (gP_V (va_recv hK hP (ci := 2) (q0 := 0) rfl rfl) hG hS (fun q _ h => hF9 q h) ⟨rfl, (hP.sub (ws' := [(o 0, .inr (2, mFs o th p0 q0 r0 mu_12 zz))]) [0] rfl), (hD.sub (ws' := [(o 0, .inr (2, mFs o th p0 q0 r0 mu_12 zz))]) [0] (by decide) rfl).self⟩) rfl rfl hl.1 rfl (lv_room (Nat.le_of_ble_eq_true rfl)) dX7_radiusSquare_136 ⟨by first | decide | omega, by first | decide | omega⟩) hP hD hS hA [0] [1, 2] rfl rfl (by decide) (by decide) (fun r9 u9 H locs hq hX hz hk hP hD hS => ?_)
              obtain ⟨r_27, rfl⟩ : ∃ z, z = r9 := ⟨_, rfl⟩
              obtain rfl := hq
              have hP : va_P (dC, dI) vwCl [(o 5, .inl (dA 1, 2640, .inr (.inl fA_10))), (o 6, .inl (dA 1, 32, .inr (.inl fM_11))), (o 0, .inr (2, mFs o (nI 3) p0 q0 r0 mu_12 zz))] H := hP
              have hD : va_D A [(o 5, .inl (dA 1, 2640, .inr (.inl fA_10))), (o 6, .inl (dA 1, 32, .inr (.inl fM_11))), (o 0, .inr (2, mFs o (nI 3) p0 q0 r0 mu_12 zz))] := hD
              subst hQe
              exact W.iret (v := nI 0) hx hb hr (fun tz ht hW => ⟨⟨_, (fA_10, fM_11, mu_12, nI 3), rfl, ModPost.mk0 (c := nI 3) (by unfold raX; rw [if_neg (fun h => h h_w), rg_n (show ja < 8 by omega)]; simp only [optC, e_6, e_15]) (fun k9 hk9 i9 hi9 => by (try dsimp only [outH] at hk9); show fA_10 (33 * k9 + i9) = fA (33 * k9 + i9); rw [hE_15, hS_6 _ (by omega)]), B1_at ht (hP.sub [2, 0, 1] rfl) (hD.sub [2, 0, 1] (by decide) rfl) trivial⟩, hS.F ht⟩) hS.2.2 dX7_radiusSquare_139
          · have c_49 : ¬ (p0 + q0 + r0) ≤ k := fun h => c_49 ((nI_leI (a := (p0 + q0 + r0)) (b := k) (by omega) (by omega)).mpr h)
            have hk7 : 2 ^ k < 32 := p5 (by omega)
            refine lv_aload_n hx hb dX7_radiusSquare_52 rfl (lv_at hl 0 rfl) ?_
            refine va_get (D := (dC, dI)) (ci := 2) (v := .ref (o 6)) (C := RX7) (T := TX7) (N := 27) hx hb hts in_X7 hown hK hP 0 rfl rfl 9 (by decide) (hts _ q2015) (fun _ h9 => h9) rfl dX7_radiusSquare_53 ?_
            refine lv_iconst (v := nI 0) hx hb dX7_radiusSquare_56 (by decide) ?_
            refine lv_dup2_11 hx hb dX7_radiusSquare_57 rfl rfl ?_
            refine a_lald hx hb hK hP 2 1 rfl rfl (by omega) (by omega) dX7_radiusSquare_58 ?_
            refine lv_aload_n hx hb dX7_radiusSquare_59 rfl (lv_at hl 0 rfl) ?_
            refine lv_iconst (v := nI 1) hx hb dX7_radiusSquare_60 (by decide) ?_
            refine lv_iload hx hb dX7_radiusSquare_61 (lv_at hl 4 rfl) ?_
            refine lv_ishl hx hb dX7_radiusSquare_63 ?_
            refine e_i (y := nI (2 ^ k)) (n_shl1 (by omega)) ?_
            refine lv_iconst (v := nI 1) hx hb dX7_radiusSquare_64 (by decide) ?_
            refine lv_iload hx hb dX7_radiusSquare_65 (lv_at hl 4 rfl) ?_
            refine lv_ishl hx hb dX7_radiusSquare_67 ?_
            refine e_i (y := nI (2 ^ k)) (n_shl1 (by omega)) ?_
            refine s_i (va_runV (As := [.int (nI (2 ^ k)), .int (nI (2 ^ k))]) (rest := [.long ((raR p0 q0 r0 (Ms ja) k) 0), .int (nI 0), .ref (o 6)]) ⟨hx, hb, hml, hown, hts⟩ (x7_signOf Z o th p0 q0 r0 1 zz (2 ^ k) (2 ^ k) (by omega) (by omega) (by omega)) (cwV 2 hts (lw_V q2161 q2163 qs45 q107 q2164) rfl rfl rfl (by decide +kernel) ⟨Nat.le_of_ble_eq_true rfl, Nat.le_of_ble_eq_true rfl⟩) (gP_V (va_recv hK hP (ci := 2) (q0 := 0) rfl rfl) hG hS (fun q _ h => h.elim) (hP.sub (ws' := [(o 0, .inr (2, mFs o th p0 q0 r0 1 zz))]) [0] rfl)) rfl rfl hl.1 rfl (lv_room (Nat.le_of_ble_eq_true rfl)) dX7_radiusSquare_68 ⟨by first | decide | omega, by first | decide | omega⟩) ?_
            refine lv_i2l (v := (sgS p0 q0 r0 (2 ^ k) (2 ^ k)).toInt64) hx hb dX7_radiusSquare_71 rfl ?_
            refine lv_aload_n hx hb dX7_radiusSquare_72 rfl (lv_at hl 0 rfl) ?_
            refine lv_iload_n hx hb dX7_radiusSquare_73 rfl (lv_at hl 2 rfl) ?_
            refine lv_iconst (v := nI 1) hx hb dX7_radiusSquare_74 (by decide) ?_
            refine lv_iload hx hb dX7_radiusSquare_75 (lv_at hl 4 rfl) ?_
            refine lv_ishl hx hb dX7_radiusSquare_77 ?_
            refine e_i (y := nI (2 ^ k)) (n_shl1 (by omega)) ?_
            refine s_l (va_runV (As := [.int (nI ja), .int (nI (2 ^ k))]) (rest := [.long ((sgS p0 q0 r0 (2 ^ k) (2 ^ k)).toInt64), .long ((raR p0 q0 r0 (Ms ja) k) 0), .int (nI 0), .ref (o 6)]) ⟨hx, hb, hml, hown, hts⟩ (x7_of Z o th p0 q0 r0 1 zz fA_1 ja (2 ^ k) (by omega)) (cwV 2 hts (lw_V q2119 q2121 qs38 q107 q2122) rfl rfl rfl (by decide +kernel) ⟨Nat.le_of_ble_eq_true rfl, Nat.le_of_ble_eq_true rfl⟩) (gP_V (va_recv hK hP (ci := 2) (q0 := 0) rfl rfl) hG hS (fun q _ h => h.elim) (hP.sub (ws' := [(o 0, .inr (2, mFs o th p0 q0 r0 1 zz)), (o 5, .inl (dA 1, 2640, .inr (.inl fA_1)))]) [0, 1] rfl)) rfl rfl hl.1 rfl (lv_room (Nat.le_of_ble_eq_true rfl)) dX7_radiusSquare_78 ⟨by first | decide | omega, by first | decide | omega⟩) ?_
            refine e_l (y := (Ms ja) ((2 ^ k) + 1)) (hold_at hh_8 (i := (2 ^ k) + 1) (by omega) (by omega)) ?_
            refine lv_lmul hx hb dX7_radiusSquare_81 ?_
            refine lv_aload_n hx hb dX7_radiusSquare_82 rfl (lv_at hl 0 rfl) ?_
            refine lv_iload_n hx hb dX7_radiusSquare_83 rfl (lv_at hl 2 rfl) ?_
            refine lv_iconst (v := nI 1) hx hb dX7_radiusSquare_84 (by decide) ?_
            refine lv_iload hx hb dX7_radiusSquare_85 (lv_at hl 4 rfl) ?_
            refine lv_ishl hx hb dX7_radiusSquare_87 ?_
            refine e_i (y := nI (2 ^ k)) (n_shl1 (by omega)) ?_
            refine s_l (va_runV (As := [.int (nI ja), .int (nI (2 ^ k))]) (rest := [.long (((sgS p0 q0 r0 (2 ^ k) (2 ^ k)).toInt64) * ((Ms ja) ((2 ^ k) + 1))), .long ((raR p0 q0 r0 (Ms ja) k) 0), .int (nI 0), .ref (o 6)]) ⟨hx, hb, hml, hown, hts⟩ (x7_of Z o th p0 q0 r0 1 zz fA_1 ja (2 ^ k) (by omega)) (cwV 2 hts (lw_V q2119 q2121 qs38 q107 q2122) rfl rfl rfl (by decide +kernel) ⟨Nat.le_of_ble_eq_true rfl, Nat.le_of_ble_eq_true rfl⟩) (gP_V (va_recv hK hP (ci := 2) (q0 := 0) rfl rfl) hG hS (fun q _ h => h.elim) (hP.sub (ws' := [(o 0, .inr (2, mFs o th p0 q0 r0 1 zz)), (o 5, .inl (dA 1, 2640, .inr (.inl fA_1)))]) [0, 1] rfl)) rfl rfl hl.1 rfl (lv_room (Nat.le_of_ble_eq_true rfl)) dX7_radiusSquare_88 ⟨by first | decide | omega, by first | decide | omega⟩) ?_
            refine e_l (y := (Ms ja) ((2 ^ k) + 1)) (hold_at hh_8 (i := (2 ^ k) + 1) (by omega) (by omega)) ?_
            refine lv_lmul hx hb dX7_radiusSquare_91 ?_
            refine lv_ladd hx hb dX7_radiusSquare_92 ?_
            refine a_last hx hb hK hP hD hS 2 1 rfl rfl (by omega) (by omega) dX7_radiusSquare_93 (fun H locs hP hD hS => ?_)
            have hP : va_P (dC, dI) vwCl [(o 0, .inr (2, mFs o th p0 q0 r0 1 zz)), (o 5, .inl (dA 1, 2640, .inr (.inl fA_1))), (o 6, .inl (dA 1, 32, .inr (.inl (vp_updL (raR p0 q0 r0 (Ms ja) k) 0 (((raR p0 q0 r0 (Ms ja) k) 0) + ((((sgS p0 q0 r0 (2 ^ k) (2 ^ k)).toInt64) * ((Ms ja) ((2 ^ k) + 1))) * ((Ms ja) ((2 ^ k) + 1))))))))] H := hP
            have hD : va_D A [(o 0, .inr (2, mFs o th p0 q0 r0 1 zz)), (o 5, .inl (dA 1, 2640, .inr (.inl fA_1))), (o 6, .inl (dA 1, 32, .inr (.inl (vp_updL (raR p0 q0 r0 (Ms ja) k) 0 (((raR p0 q0 r0 (Ms ja) k) 0) + ((((sgS p0 q0 r0 (2 ^ k) (2 ^ k)).toInt64) * ((Ms ja) ((2 ^ k) + 1))) * ((Ms ja) ((2 ^ k) + 1))))))))] := hD
            have e9 : (vp_updL (raR p0 q0 r0 (Ms ja) k) 0 (((raR p0 q0 r0 (Ms ja) k) 0) + ((((sgS p0 q0 r0 (2 ^ k) (2 ^ k)).toInt64) * ((Ms ja) ((2 ^ k) + 1))) * ((Ms ja) ((2 ^ k) + 1)))) : Nat → Int64) = (raR p0 q0 r0 (Ms ja) (k + 1)) := raR_s
            rw [e9] at hP hD; clear e9
            refine lv_iinc (v := nI (k + 1)) (lv' := [(4, .int (nI (k + 1))), (0, .ref (o 0)), (1, .int (nI jt)), (2, .int (nI ja)), (3, .int (wsX p0 q0 r0 Ms (nI jt) (nI ja)))]) hx hb dX7_radiusSquare_94 hl (k := 4) rfl (by exact nI_add _ 1) (by decide) rfl (fun ls hl => ?_)
            refine lv_goto (tgt := 43) hx hb dX7_radiusSquare_97 (by decide) ?_
            exact ih_9 (k + 1) H locs ls (by omega) (by omega) (hP.sub [0, 1, 2] rfl) (hD.sub [0, 1, 2] (by decide) rfl) hS (lv_sub hl [1, 2, 3, 4, 0] rfl)
      exact loop_9 _ 0 H locs ls (Nat.lt_succ_self _) (by omega) hP hD hS (lv_sub hl [2, 3, 4, 1, 0] rfl)
    · have hh_28 : Hold fA_1 ja (Ms ja) := by rw [hE_6]; exact (hR ja (by omega))
      refine lv_if_ne (tgt := 36) hx hb dX7_radiusSquare_27 (by decide) (fun c_27 => ?_) (fun c_27 => ?_)
      · exact absurd (by decide) c_27
      refine lv_aload_n hx hb dX7_radiusSquare_30 rfl (lv_at hl 1 rfl) ?_
      refine lv_iconst (v := nI 3) hx hb dX7_radiusSquare_31 (by decide) ?_
      have hF9 := va_free (wc := [(o 0, .inr (2, mFs o th p0 q0 r0 mu_3 zz))]) hD hS (fun q h => hA q h) [0] rfl
      refine c_i (wr := [(o 5, .inl (dA 1, 2640, .inr (.inl fA_1))), (o 6, .inl (dA 1, 32, .inr (.inl fM_2)))]) (va_runV (As := [.int (nI 3)]) (rest := []) ⟨hx, hb, hml, hown, hts⟩ (x7_refuses Z (va_A [(o 0, .inr (2, mFs o th p0 q0 r0 mu_3 zz))] H.size) H.size (fun q h => Or.inr h) o th p0 q0 r0 mu_3 zz (nI 3)) (cwV 1 hts (lw_V q2100 q2102 qs34 q107 q2103) rfl rfl rfl (by decide +kernel) ⟨Nat.le_of_ble_eq_true rfl, Nat.le_of_ble_eq_true rfl⟩) (gP_V (va_recv hK hP (ci := 2) (q0 := 0) rfl rfl) hG hS (fun q _ h => hF9 q h) ⟨rfl, (hP.sub (ws' := [(o 0, .inr (2, mFs o th p0 q0 r0 mu_3 zz))]) [0] rfl), (hD.sub (ws' := [(o 0, .inr (2, mFs o th p0 q0 r0 mu_3 zz))]) [0] (by decide) rfl).self⟩) rfl rfl hl.1 rfl (lv_room (Nat.le_of_ble_eq_true rfl)) dX7_radiusSquare_32 ⟨by first | decide | omega, by first | decide | omega⟩) hP hD hS hA [0] [1, 2] rfl rfl (by decide) (by decide) (fun r9 u9 H locs hq hX hz hk hP hD hS => ?_)
      obtain ⟨r_29, rfl⟩ : ∃ z, z = r9 := ⟨_, rfl⟩
      obtain rfl := hq
      have hP : va_P (dC, dI) vwCl [(o 5, .inl (dA 1, 2640, .inr (.inl fA_1))), (o 6, .inl (dA 1, 32, .inr (.inl fM_2))), (o 0, .inr (2, mFs o (nI 3) p0 q0 r0 mu_3 zz))] H := hP
      have hD : va_D A [(o 5, .inl (dA 1, 2640, .inr (.inl fA_1))), (o 6, .inl (dA 1, 32, .inr (.inl fM_2))), (o 0, .inr (2, mFs o (nI 3) p0 q0 r0 mu_3 zz))] := hD
      subst hQe
      exact W.iret (v := nI 0) hx hb hr (fun tz ht hW => ⟨⟨_, (fA_1, fM_2, mu_3, nI 3), rfl, ModPost.mk0 (c := nI 3) (by unfold raX; rw [if_neg (fun h => h h_w), rg_n (show ja < 8 by omega)]; simp only [optC, e_6]) (fun k9 hk9 i9 hi9 => by (try dsimp only [outH] at hk9); show fA_1 (33 * k9 + i9) = fA (33 * k9 + i9); rw [hE_6]), B1_at ht (hP.sub [2, 0, 1] rfl) (hD.sub [2, 0, 1] (by decide) rfl) trivial⟩, hS.F ht⟩) hS.2.2 dX7_radiusSquare_35
  · have h_w := ws_n c_8
    refine lv_aload_n hx hb dX7_radiusSquare_11 rfl (lv_at hl 1 rfl) ?_
    refine lv_iload_n hx hb dX7_radiusSquare_12 rfl (lv_at hl 0 rfl) ?_
    have hF9 := va_free (wc := [(o 0, .inr (2, mFs o th p0 q0 r0 mu zz))]) hD hS (fun q h => hA q h) [0] rfl
    refine c_i (wr := [(o 5, .inl (dA 1, 2640, .inr (.inl fA))), (o 6, .inl (dA 1, 32, .inr (.inl fM)))]) (va_runV (As := [.int (wsX p0 q0 r0 Ms t a)]) (rest := []) ⟨hx, hb, hml, hown, hts⟩ (x7_refuses Z (va_A [(o 0, .inr (2, mFs o th p0 q0 r0 mu zz))] s.heap.size) s.heap.size (fun q h => Or.inr h) o th p0 q0 r0 mu zz (wsX p0 q0 r0 Ms t a)) (cwV 1 hts (lw_V q2100 q2102 qs34 q107 q2103) rfl rfl rfl (by decide +kernel) ⟨Nat.le_of_ble_eq_true rfl, Nat.le_of_ble_eq_true rfl⟩) (gP_V (va_recv hK hP (ci := 2) (q0 := 0) rfl rfl) hG hS (fun q _ h => hF9 q h) ⟨rfl, (hP.sub (ws' := [(o 0, .inr (2, mFs o th p0 q0 r0 mu zz))]) [0] rfl), (hD.sub (ws' := [(o 0, .inr (2, mFs o th p0 q0 r0 mu zz))]) [0] (by decide) rfl).self⟩) rfl rfl hl.1 rfl (lv_room (Nat.le_of_ble_eq_true rfl)) dX7_radiusSquare_13 ⟨by first | decide | omega, by first | decide | omega⟩) hP hD hS hA [0] [1, 2] rfl rfl (by decide) (by decide) (fun r9 u9 H locs hq hX hz hk hP hD hS => ?_)
    obtain ⟨r_30, rfl⟩ : ∃ z, z = r9 := ⟨_, rfl⟩
    obtain rfl := hq
    have hP : va_P (dC, dI) vwCl [(o 5, .inl (dA 1, 2640, .inr (.inl fA))), (o 6, .inl (dA 1, 32, .inr (.inl fM))), (o 0, .inr (2, mFs o (wsX p0 q0 r0 Ms t a) p0 q0 r0 mu zz))] H := hP
    have hD : va_D A [(o 5, .inl (dA 1, 2640, .inr (.inl fA))), (o 6, .inl (dA 1, 32, .inr (.inl fM))), (o 0, .inr (2, mFs o (wsX p0 q0 r0 Ms t a) p0 q0 r0 mu zz))] := hD
    subst hQe
    exact W.iret (v := nI 0) hx hb hr (fun tz ht hW => ⟨⟨_, (fA, fM, mu, wsX p0 q0 r0 Ms t a), rfl, ModPost.mk0 (c := wsX p0 q0 r0 Ms t a) (by unfold raX; rw [if_pos h_w]) (fun k9 hk9 i9 hi9 => rfl), B1_at ht (hP.sub [2, 0, 1] rfl) (hD.sub [2, 0, 1] (by decide) rfl) trivial⟩, hS.F ht⟩) hS.2.2 dX7_radiusSquare_16
set_option maxHeartbeats 4000000 in
theorem x7_point {l : Launch} {dC : Nat → ClassId} {dI : Nat → Nat → Nat} {dA : Nat → ClassId} {s0 : State} {b0 : Addr} (Z : Z0 l dC dI dA s0 b0) (A : Nat → Prop) (sz : Nat) (hA : ∀ q : Nat, sz ≤ q → A q) (o : Nat → Nat) (th : Int32) (p0 q0 r0 : Nat) (mu : Int64) (zz : Nat → Int32) (fA fM : Nat → Int64) (Ms : Nat → MV) (t : Int32) (x : Int32) (y : Int32) (z : Int32) (d : Int32) (hn : p0 + q0 + r0 ≤ 5) (hR : ∀ k, k < 8 → Hold fA k (Ms k)) (sR : ∀ k, k < 8 → MSm (Ms k)) : Met l yX7_point (ws_ yX7_point cX7_point 12 (some .int)) ({ frames := 4, cells := 0, slots := 0, locals := 240 } : Room) (gP [.ref (o 0), .int t, .int x, .int y, .int z, .int d] s0 A (fun H => H.size = sz ∧ va_P (dC, dI) vwCl [(o 0, .inr (2, mFs o th p0 q0 r0 mu zz)), (o 5, .inl (dA 1, 2640, .inr (.inl fA))), (o 6, .inl (dA 1, 32, .inr (.inl fM)))] H ∧ va_D A [(o 0, .inr (2, mFs o th p0 q0 r0 mu zz)), (o 5, .inl (dA 1, 2640, .inr (.inl fA))), (o 6, .inl (dA 1, 32, .inr (.inl fM)))])) (va_Qi (S := (Nat → Int64) × (Nat → Int64) × Int64 × Int32) (fun r u => ModPost fA (rg t) (ptX p0 q0 r0 t x y z d) u.2.2.2 r u.1) (B1 (dC, dI) A (fun u => mC dA o u.2.2.2 p0 q0 r0 u.2.2.1 zz u.1 u.2.1) (fun _ _ => True)) A) 0 0 A := by
  refine Met.ofW (cc := cX7_point) (maxL := 12) (ret := (some .int)) (by decide) rfl ?_
  intro p e s m args below meth c s₁ B hml hv
  obtain ⟨hav, hG, hsz, hP, hD⟩ := hv
  have hx := B.exec
  have hb := B.bytes
  have hr := B.returns
  have hts := atoms_spec (ws := (ws_ yX7_point cX7_point 12 (some .int))) B.pre
  have hts : ∀ w ∈ lw_all, w.before _ s = true := fun w h => hts w (List.mem_cons_of_mem _ h)
  have hown : s.vm.findClass RX7 = some m.cls := findClass_of_methodNamed B.named
  have hlocks := B.notSynchronized
  have hK := hG.K Z
  subst hsz
  have hS : va_S A s.heap s.heap [] := va_S.rf
  have hl := lv_entry ([.ref (o 0), .int t, .int x, .int y, .int z, .int d]) (n := 12) (Nat.le_of_ble_eq_true rfl)
  rw [show entryFrame m args 12 = entryFrame m ([.ref (o 0), .int t, .int x, .int y, .int z, .int d] : List Value).toArray 12 from by rw [hav], lg_entry_eq]
  generalize (lg_sl ([.ref (o 0), .int t, .int x, .int y, .int z, .int d]) ++ List.replicate (12 - (lg_sl ([.ref (o 0), .int t, .int x, .int y, .int z, .int d])).length) Slot.unset).toArray = ls at hl ⊢
  have hl : lv_has ls 12 [(0, .ref (o 0)), (1, .int t), (2, .int x), (3, .int y), (4, .int z), (5, .int d)] := hl
  generalize hQe : MQ below _ _ s _ _ _ = Q
  change W p l e ({ frames := 4, cells := 0, slots := 0, locals := 240 } : Room) s m args below meth c s.heap [] 0 0 Q (F0 m 0 ls [])
  refine lv_iload_n hx hb dX7_point_0 rfl (lv_at hl 1 rfl) ?_
  refine s_i (va_runS (As := [.int t]) (rest := []) ⟨hx, hb, hml, hown, hts⟩ (x7_isRegister Z t) (va_cwS 1 hts (lw_S q2104 q2105 q107 q2106) rfl rfl rfl (by decide +kernel) ⟨Nat.le_of_ble_eq_true rfl, Nat.le_of_ble_eq_true rfl⟩) (gP_S hG hS (fun q _ h => h.elim) trivial) rfl rfl hl.1 rfl (lv_room (Nat.le_of_ble_eq_true rfl)) dX7_point_1 ⟨by first | decide | omega, by first | decide | omega⟩) ?_
  refine lv_if_ne (tgt := 13) hx hb dX7_point_4 (by decide) (fun c_4 => ?_) (fun c_4 => ?_)
  · have h_t := bI_1 c_4
    obtain ⟨jt, hj_t, rfl⟩ := inB_nat (by decide) h_t
    have J_1 : ∀  (H : Heap) (locs : List Loc) (ls : Array Slot), va_P (dC, dI) vwCl [(o 0, .inr (2, mFs o th p0 q0 r0 mu zz)), (o 5, .inl (dA 1, 2640, .inr (.inl fA))), (o 6, .inl (dA 1, 32, .inr (.inl fM)))] H → va_D A [(o 0, .inr (2, mFs o th p0 q0 r0 mu zz)), (o 5, .inl (dA 1, 2640, .inr (.inl fA))), (o 6, .inl (dA 1, 32, .inr (.inl fM)))] → va_S A s.heap H locs → lv_has ls 12 [(0, .ref (o 0)), (1, .int (nI jt)), (2, .int x), (3, .int y), (4, .int z), (5, .int d)] → W p l e ({ frames := 4, cells := 0, slots := 0, locals := 240 } : Room) s m args below meth c H locs 0 0 Q (F0 m 51 ls [.int (bI (coB x && coB y && coB z && inB d (nI 1) (nI 100)))]) := by
      intro  H locs ls  hP hD hS hl
      refine lv_istore (lv' := [(6, .int (bI (coB x && coB y && coB z && inB d (nI 1) (nI 100)))), (0, .ref (o 0)), (1, .int (nI jt)), (2, .int x), (3, .int y), (4, .int z), (5, .int d)]) hx hb dX7_point_51 hl (by decide) rfl (fun ls hl => ?_)
      have J_2 : ∀  (H : Heap) (locs : List Loc) (ls : Array Slot), va_P (dC, dI) vwCl [(o 0, .inr (2, mFs o th p0 q0 r0 mu zz)), (o 5, .inl (dA 1, 2640, .inr (.inl fA))), (o 6, .inl (dA 1, 32, .inr (.inl fM)))] H → va_D A [(o 0, .inr (2, mFs o th p0 q0 r0 mu zz)), (o 5, .inl (dA 1, 2640, .inr (.inl fA))), (o 6, .inl (dA 1, 32, .inr (.inl fM)))] → va_S A s.heap H locs → lv_has ls 12 [(6, .int (bI (coB x && coB y && coB z && inB d (nI 1) (nI 100)))), (0, .ref (o 0)), (1, .int (nI jt)), (2, .int x), (3, .int y), (4, .int z), (5, .int d)] → W p l e ({ frames := 4, cells := 0, slots := 0, locals := 240 } : Room) s m args below meth c H locs 0 0 Q (F0 m 68 ls [.int (nI (pk0 p0 q0 r0))]) := by
        intro  H locs ls  hP hD hS hl
        refine lv_istore (lv' := [(7, .int (nI (pk0 p0 q0 r0))), (6, .int (bI (coB x && coB y && coB z && inB d (nI 1) (nI 100)))), (0, .ref (o 0)), (1, .int (nI jt)), (2, .int x), (3, .int y), (4, .int z), (5, .int d)]) hx hb dX7_point_68 hl (by decide) rfl (fun ls hl => ?_)
        have hpk : pk0 p0 q0 r0 ≤ 3 := pk0_le
        have hl : lv_has ls 12 [(7, .int (nI (pk0 p0 q0 r0))), (6, .int (bI ((coB x && coB y && coB z && inB d (nI 1) (nI 100)) && czN x y z (pk0 p0 q0 r0) 0))), (0, .ref (o 0)), (1, .int (nI jt)), (2, .int x), (3, .int y), (4, .int z), (5, .int d)] := by rw [show bI ((coB x && coB y && coB z && inB d (nI 1) (nI 100)) && czN x y z (pk0 p0 q0 r0) 0) = bI (coB x && coB y && coB z && inB d (nI 1) (nI 100)) from (show bI ((coB x && coB y && coB z && inB d (nI 1) (nI 100)) && true) = _ from by rw [Bool.and_true])]; exact hl
        have hl : lv_has ls 12 [(7, .int (nI (pk0 p0 q0 r0 + 0))), (6, .int (bI ((coB x && coB y && coB z && inB d (nI 1) (nI 100)) && czN x y z (pk0 p0 q0 r0) 0))), (0, .ref (o 0)), (1, .int (nI jt)), (2, .int x), (3, .int y), (4, .int z), (5, .int d)] := by rw [show nI (pk0 p0 q0 r0 + 0) = nI (pk0 p0 q0 r0) from rfl]; exact hl
        have loop_3 : ∀ (n9_3 : Nat) (i : Nat) (H : Heap) (locs : List Loc) (ls : Array Slot), 3 - i < n9_3 → (i ≤ 3 - pk0 p0 q0 r0) → va_P (dC, dI) vwCl [(o 0, .inr (2, mFs o th p0 q0 r0 mu zz)), (o 5, .inl (dA 1, 2640, .inr (.inl fA))), (o 6, .inl (dA 1, 32, .inr (.inl fM)))] H → va_D A [(o 0, .inr (2, mFs o th p0 q0 r0 mu zz)), (o 5, .inl (dA 1, 2640, .inr (.inl fA))), (o 6, .inl (dA 1, 32, .inr (.inl fM)))] → va_S A s.heap H locs → lv_has ls 12 [(0, .ref (o 0)), (1, .int (nI jt)), (2, .int x), (3, .int y), (4, .int z), (5, .int d), (6, .int (bI ((coB x && coB y && coB z && inB d (nI 1) (nI 100)) && czN x y z (pk0 p0 q0 r0) i))), (7, .int (nI (pk0 p0 q0 r0 + i)))] → W p l e ({ frames := 4, cells := 0, slots := 0, locals := 240 } : Room) s m args below meth c H locs 0 0 Q (F0 m 70 ls []) := by
          intro n9_3
          induction n9_3 with
          | zero => intro i H locs ls hm_3; exact absurd hm_3 (Nat.not_lt_zero _)
          | succ n9_3 ih_3 =>
            intro i H locs ls hm_3 hi9 hP hD hS hl
            refine lv_iload hx hb dX7_point_70 (lv_at hl 7 rfl) ?_
            refine lv_iconst (v := nI 3) hx hb dX7_point_72 (by decide) ?_
            refine lv_icmp_ge (tgt := 106) hx hb dX7_point_73 (by decide) (fun c_73 => ?_) (fun c_73 => ?_)
            · have c_73 : 3 ≤ (pk0 p0 q0 r0 + i) := (nI_leI (a := 3) (b := (pk0 p0 q0 r0 + i)) (by omega) (by omega)).mp c_73
              obtain rfl : i = 3 - pk0 p0 q0 r0 := by omega
              refine lv_iload hx hb dX7_point_106 (lv_at hl 6 rfl) ?_
              refine lv_if_ne (tgt := 117) hx hb dX7_point_108 (by decide) (fun c_108 => ?_) (fun c_108 => ?_)
              · have h_b : ptB p0 q0 r0 x y z d = true := bI_1 c_108
                refine lv_aload_n hx hb dX7_point_117 rfl (lv_at hl 0 rfl) ?_
                refine s_i (va_runV (As := []) (rest := []) ⟨hx, hb, hml, hown, hts⟩ (x7_isConformal Z o th p0 q0 r0 mu zz (by omega)) (cwV 0 hts (lw_V q2379 q2381 qs70 q107 q2382) rfl rfl rfl (by decide +kernel) ⟨Nat.le_of_ble_eq_true rfl, Nat.le_of_ble_eq_true rfl⟩) (gP_V (va_recv hK hP (ci := 2) (q0 := 0) rfl rfl) hG hS (fun q _ h => h.elim) (hP.sub (ws' := [(o 0, .inr (2, mFs o th p0 q0 r0 mu zz))]) [0] rfl)) rfl rfl hl.1 rfl (lv_room (Nat.le_of_ble_eq_true rfl)) dX7_point_118 ⟨by first | decide | omega, by first | decide | omega⟩) ?_
                refine lv_if_ne (tgt := 130) hx hb dX7_point_121 (by decide) (fun c_121 => ?_) (fun c_121 => ?_)
                · have h_c := bI_1 c_121
                  have hcf := cf_p h_c
                  have h_d := pt_d h_b
                  refine lv_aload_n hx hb dX7_point_130 rfl (lv_at hl 0 rfl) ?_
                  have hF9 := va_free (wc := [(o 0, .inr (2, mFs o th p0 q0 r0 mu zz)), (o 5, .inl (dA 1, 2640, .inr (.inl fA))), (o 6, .inl (dA 1, 32, .inr (.inl fM)))]) hD hS (fun q h => hA q h) [0, 1, 2] rfl
                  refine c_v (wr := []) (va_runV (As := []) (rest := []) ⟨hx, hb, hml, hown, hts⟩ (x7_clearsMade Z (va_A [(o 0, .inr (2, mFs o th p0 q0 r0 mu zz)), (o 5, .inl (dA 1, 2640, .inr (.inl fA))), (o 6, .inl (dA 1, 32, .inr (.inl fM)))] H.size) H.size (fun q h => Or.inr h) o th p0 q0 r0 mu zz fA fM) (cwV 0 hts (lw_V q2115 q2117 qs37 q107 q2118) rfl rfl rfl (by decide +kernel) ⟨Nat.le_of_ble_eq_true rfl, Nat.le_of_ble_eq_true rfl⟩) (gP_V (va_recv hK hP (ci := 2) (q0 := 0) rfl rfl) hG hS (fun q _ h => hF9 q h) ⟨rfl, (hP.sub (ws' := [(o 0, .inr (2, mFs o th p0 q0 r0 mu zz)), (o 5, .inl (dA 1, 2640, .inr (.inl fA))), (o 6, .inl (dA 1, 32, .inr (.inl fM)))]) [0, 1, 2] rfl), (hD.sub (ws' := [(o 0, .inr (2, mFs o th p0 q0 r0 mu zz)), (o 5, .inl (dA 1, 2640, .inr (.inl fA))), (o 6, .inl (dA 1, 32, .inr (.inl fM)))]) [0, 1, 2] (by decide) rfl).self⟩) rfl rfl hl.1 rfl (lv_room (Nat.le_of_ble_eq_true rfl)) dX7_point_131 ⟨by first | decide | omega, by first | decide | omega⟩) hP hD hS hA [0, 1, 2] [] rfl rfl (by decide) (by decide) (fun u9 H locs hq hX hz hk hP hD hS => ?_)
                  have hP : va_P (dC, dI) vwCl [(o 0, .inr (2, mFs o th p0 q0 r0 1 zz)), (o 5, .inl (dA 1, 2640, .inr (.inl fA))), (o 6, .inl (dA 1, 32, .inr (.inl (fun _ => 0))))] H := hP
                  have hD : va_D A [(o 0, .inr (2, mFs o th p0 q0 r0 1 zz)), (o 5, .inl (dA 1, 2640, .inr (.inl fA))), (o 6, .inl (dA 1, 32, .inr (.inl (fun _ => 0))))] := hD
                  refine lv_lconst (v := 0) hx hb dX7_point_134 rfl ?_
                  refine lv_lstore (lv' := [(7, .long 0), (0, .ref (o 0)), (1, .int (nI jt)), (2, .int x), (3, .int y), (4, .int z), (5, .int d), (6, .int (bI ((coB x && coB y && coB z && inB d (nI 1) (nI 100)) && czN x y z (pk0 p0 q0 r0) (3 - pk0 p0 q0 r0))))]) hx hb dX7_point_135 hl (by decide) rfl (fun ls hl => ?_)
                  refine lv_iconst (v := nI 0) hx hb dX7_point_137 (by decide) ?_
                  refine lv_istore (lv' := [(9, .int (nI 0)), (7, .long 0), (0, .ref (o 0)), (1, .int (nI jt)), (2, .int x), (3, .int y), (4, .int z), (5, .int d), (6, .int (bI ((coB x && coB y && coB z && inB d (nI 1) (nI 100)) && czN x y z (pk0 p0 q0 r0) (3 - pk0 p0 q0 r0))))]) hx hb dX7_point_138 hl (by decide) rfl (fun ls hl => ?_)
                  have e9 : (fun _ => 0 : Nat → Int64) = (pvS (ptV x y z d) 0) := rfl
                  rw [e9] at hP hD; clear e9
                  have hl : lv_has ls 12 [(9, .int (nI 0)), (7, .long (ptQ x y z 0)), (0, .ref (o 0)), (1, .int (nI jt)), (2, .int x), (3, .int y), (4, .int z), (5, .int d), (6, .int (bI ((coB x && coB y && coB z && inB d (nI 1) (nI 100)) && czN x y z (pk0 p0 q0 r0) (3 - pk0 p0 q0 r0))))] := by rw [show ptQ x y z 0 = 0 from rfl]; exact hl
                  have loop_4 : ∀ (n9_4 : Nat) (k : Nat) (H : Heap) (locs : List Loc) (ls : Array Slot), p0 - 1 - k < n9_4 → (k ≤ p0 - 1) → va_P (dC, dI) vwCl [(o 0, .inr (2, mFs o th p0 q0 r0 1 zz)), (o 5, .inl (dA 1, 2640, .inr (.inl fA))), (o 6, .inl (dA 1, 32, .inr (.inl (pvS (ptV x y z d) k))))] H → va_D A [(o 0, .inr (2, mFs o th p0 q0 r0 1 zz)), (o 5, .inl (dA 1, 2640, .inr (.inl fA))), (o 6, .inl (dA 1, 32, .inr (.inl (pvS (ptV x y z d) k))))] → va_S A s.heap H locs → lv_has ls 12 [(0, .ref (o 0)), (1, .int (nI jt)), (2, .int x), (3, .int y), (4, .int z), (5, .int d), (6, .int (bI ((coB x && coB y && coB z && inB d (nI 1) (nI 100)) && czN x y z (pk0 p0 q0 r0) (3 - pk0 p0 q0 r0)))), (7, .long (ptQ x y z k)), (9, .int (nI k))] → W p l e ({ frames := 4, cells := 0, slots := 0, locals := 240 } : Room) s m args below meth c H locs 0 0 Q (F0 m 140 ls []) := by
                    intro n9_4
                    induction n9_4 with
                    | zero => intro k H locs ls hm_4; exact absurd hm_4 (Nat.not_lt_zero _)
                    | succ n9_4 ih_4 =>
                      intro k H locs ls hm_4 hk9 hP hD hS hl
                      refine lv_iload hx hb dX7_point_140 (lv_at hl 8 rfl) ?_
                      refine lv_aload_n hx hb dX7_point_142 rfl (lv_at hl 0 rfl) ?_
                      refine s_i (va_runV (As := []) (rest := [.int (nI k)]) ⟨hx, hb, hml, hown, hts⟩ (x7_dimension Z o th p0 q0 r0 1 zz (by omega)) (cwV 0 hts (lw_V q2383 q2385 qs71 q107 q2386) rfl rfl rfl (by decide +kernel) ⟨Nat.le_of_ble_eq_true rfl, Nat.le_of_ble_eq_true rfl⟩) (gP_V (va_recv hK hP (ci := 2) (q0 := 0) rfl rfl) hG hS (fun q _ h => h.elim) (hP.sub (ws' := [(o 0, .inr (2, mFs o th p0 q0 r0 1 zz))]) [0] rfl)) rfl rfl hl.1 rfl (lv_room (Nat.le_of_ble_eq_true rfl)) dX7_point_143 ⟨by first | decide | omega, by first | decide | omega⟩) ?_
                      refine lv_icmp_ge (tgt := 196) hx hb dX7_point_146 (by decide) (fun c_146 => ?_) (fun c_146 => ?_)
                      · have c_146 : (p0 - 1) ≤ k := (nI_leI (a := (p0 - 1)) (b := k) (by omega) (by omega)).mp c_146
                        obtain rfl : k = p0 - 1 := by omega
                        have hq1 := p5 (k := p0) (by omega)
                        have hq2 := p5 (k := p0 - 1) (by omega)
                        refine lv_aload_n hx hb dX7_point_196 rfl (lv_at hl 0 rfl) ?_
                        refine lv_iload hx hb dX7_point_197 (lv_at hl 5 rfl) ?_
                        refine lv_i2l (v := d.toInt64) hx hb dX7_point_199 rfl ?_
                        refine lv_iload hx hb dX7_point_200 (lv_at hl 5 rfl) ?_
                        refine lv_i2l (v := d.toInt64) hx hb dX7_point_202 rfl ?_
                        refine lv_lmul hx hb dX7_point_203 ?_
                        refine va_put (D := (dC, dI)) (ci := 2) (v := .long (d.toInt64 * d.toInt64)) (ty := .long) (C := RX7) (T := TX7) (N := 27) hx hb hts in_X7 tyX7 tyX7_ok nmX7 hown hK hP hD hS 0 rfl rfl 10 (by decide) (hts _ q2016) (fun _ h9 => h9) rfl (by decide +kernel) rfl rfl (Nat.le_of_ble_eq_true rfl) dX7_point_204 (fun H locs hP hD hS => ?_)
                        have hP : va_P (dC, dI) vwCl [(o 0, .inr (2, mFs o th p0 q0 r0 (d.toInt64 * d.toInt64) zz)), (o 5, .inl (dA 1, 2640, .inr (.inl fA))), (o 6, .inl (dA 1, 32, .inr (.inl (pvS (ptV x y z d) (p0 - 1)))))] H := hP
                        have hD : va_D A [(o 0, .inr (2, mFs o th p0 q0 r0 (d.toInt64 * d.toInt64) zz)), (o 5, .inl (dA 1, 2640, .inr (.inl fA))), (o 6, .inl (dA 1, 32, .inr (.inl (pvS (ptV x y z d) (p0 - 1)))))] := hD
                        refine lv_aload_n hx hb dX7_point_207 rfl (lv_at hl 0 rfl) ?_
                        refine va_get (D := (dC, dI)) (ci := 2) (v := .ref (o 6)) (C := RX7) (T := TX7) (N := 27) hx hb hts in_X7 hown hK hP 0 rfl rfl 9 (by decide) (hts _ q2015) (fun _ h9 => h9) rfl dX7_point_208 ?_
                        refine lv_aload_n hx hb dX7_point_211 rfl (lv_at hl 0 rfl) ?_
                        refine s_i (va_runV (As := []) (rest := [.ref (o 6)]) ⟨hx, hb, hml, hown, hts⟩ (x7_first Z o th p0 q0 r0 (d.toInt64 * d.toInt64) zz (by omega) (by omega)) (cwV 0 hts (lw_V q2390 q2392 qs72 q107 q2393) rfl rfl rfl (by decide +kernel) ⟨Nat.le_of_ble_eq_true rfl, Nat.le_of_ble_eq_true rfl⟩) (gP_V (va_recv hK hP (ci := 2) (q0 := 0) rfl rfl) hG hS (fun q _ h => h.elim) (hP.sub (ws' := [(o 0, .inr (2, mFs o th p0 q0 r0 (d.toInt64 * d.toInt64) zz))]) [0] rfl)) rfl rfl hl.1 rfl (lv_room (Nat.le_of_ble_eq_true rfl)) dX7_point_212 ⟨by first | decide | omega, by first | decide | omega⟩) ?_
                        refine lv_lload hx hb dX7_point_215 (lv_at hl 7 rfl) ?_
                        refine lv_aload_n hx hb dX7_point_217 rfl (lv_at hl 0 rfl) ?_
                        refine va_get (D := (dC, dI)) (ci := 2) (v := .long (d.toInt64 * d.toInt64)) (C := RX7) (T := TX7) (N := 27) hx hb hts in_X7 hown hK hP 0 rfl rfl 10 (by decide) (hts _ q2016) (fun _ h9 => h9) rfl dX7_point_218 ?_
                        refine lv_lsub hx hb dX7_point_221 ?_
                        refine a_last hx hb hK hP hD hS 2 1 rfl rfl (by omega) (by omega) dX7_point_222 (fun H locs hP hD hS => ?_)
                        have hP : va_P (dC, dI) vwCl [(o 0, .inr (2, mFs o th p0 q0 r0 (d.toInt64 * d.toInt64) zz)), (o 5, .inl (dA 1, 2640, .inr (.inl fA))), (o 6, .inl (dA 1, 32, .inr (.inl (vp_updL (pvS (ptV x y z d) (p0 - 1)) (2 ^ (p0 - 1)) ((ptQ x y z (p0 - 1)) - (d.toInt64 * d.toInt64))))))] H := hP
                        have hD : va_D A [(o 0, .inr (2, mFs o th p0 q0 r0 (d.toInt64 * d.toInt64) zz)), (o 5, .inl (dA 1, 2640, .inr (.inl fA))), (o 6, .inl (dA 1, 32, .inr (.inl (vp_updL (pvS (ptV x y z d) (p0 - 1)) (2 ^ (p0 - 1)) ((ptQ x y z (p0 - 1)) - (d.toInt64 * d.toInt64))))))] := hD
                        refine lv_aload_n hx hb dX7_point_223 rfl (lv_at hl 0 rfl) ?_
                        refine va_get (D := (dC, dI)) (ci := 2) (v := .ref (o 6)) (C := RX7) (T := TX7) (N := 27) hx hb hts in_X7 hown hK hP 0 rfl rfl 9 (by decide) (hts _ q2015) (fun _ h9 => h9) rfl dX7_point_224 ?_
                        refine lv_aload_n hx hb dX7_point_227 rfl (lv_at hl 0 rfl) ?_
                        refine s_i (va_runV (As := []) (rest := [.ref (o 6)]) ⟨hx, hb, hml, hown, hts⟩ (x7_second Z o th p0 q0 r0 (d.toInt64 * d.toInt64) zz (by omega)) (cwV 0 hts (lw_V q2394 q2396 qs73 q107 q2397) rfl rfl rfl (by decide +kernel) ⟨Nat.le_of_ble_eq_true rfl, Nat.le_of_ble_eq_true rfl⟩) (gP_V (va_recv hK hP (ci := 2) (q0 := 0) rfl rfl) hG hS (fun q _ h => h.elim) (hP.sub (ws' := [(o 0, .inr (2, mFs o th p0 q0 r0 (d.toInt64 * d.toInt64) zz))]) [0] rfl)) rfl rfl hl.1 rfl (lv_room (Nat.le_of_ble_eq_true rfl)) dX7_point_228 ⟨by first | decide | omega, by first | decide | omega⟩) ?_
                        refine lv_lload hx hb dX7_point_231 (lv_at hl 7 rfl) ?_
                        refine lv_aload_n hx hb dX7_point_233 rfl (lv_at hl 0 rfl) ?_
                        refine va_get (D := (dC, dI)) (ci := 2) (v := .long (d.toInt64 * d.toInt64)) (C := RX7) (T := TX7) (N := 27) hx hb hts in_X7 hown hK hP 0 rfl rfl 10 (by decide) (hts _ q2016) (fun _ h9 => h9) rfl dX7_point_234 ?_
                        refine lv_ladd hx hb dX7_point_237 ?_
                        refine a_last hx hb hK hP hD hS 2 1 rfl rfl (by omega) (by omega) dX7_point_238 (fun H locs hP hD hS => ?_)
                        have hP : va_P (dC, dI) vwCl [(o 0, .inr (2, mFs o th p0 q0 r0 (d.toInt64 * d.toInt64) zz)), (o 5, .inl (dA 1, 2640, .inr (.inl fA))), (o 6, .inl (dA 1, 32, .inr (.inl (vp_updL (vp_updL (pvS (ptV x y z d) (p0 - 1)) (2 ^ (p0 - 1)) ((ptQ x y z (p0 - 1)) - (d.toInt64 * d.toInt64))) (2 ^ p0) ((ptQ x y z (p0 - 1)) + (d.toInt64 * d.toInt64))))))] H := hP
                        have hD : va_D A [(o 0, .inr (2, mFs o th p0 q0 r0 (d.toInt64 * d.toInt64) zz)), (o 5, .inl (dA 1, 2640, .inr (.inl fA))), (o 6, .inl (dA 1, 32, .inr (.inl (vp_updL (vp_updL (pvS (ptV x y z d) (p0 - 1)) (2 ^ (p0 - 1)) ((ptQ x y z (p0 - 1)) - (d.toInt64 * d.toInt64))) (2 ^ p0) ((ptQ x y z (p0 - 1)) + (d.toInt64 * d.toInt64))))))] := hD
                        have e9 : (vp_updL (vp_updL (pvS (ptV x y z d) (p0 - 1)) (2 ^ (p0 - 1)) ((ptQ x y z (p0 - 1)) - (d.toInt64 * d.toInt64))) (2 ^ p0) ((ptQ x y z (p0 - 1)) + (d.toInt64 * d.toInt64)) : Nat → Int64) = (ptR p0 x y z d) := rfl
                        rw [e9] at hP hD; clear e9
                        refine lv_aload_n hx hb dX7_point_239 rfl (lv_at hl 0 rfl) ?_
                        refine lv_bipush (v := nI 24) hx hb dX7_point_240 (by decide) ?_
                        have hF9 := va_free (wc := [(o 0, .inr (2, mFs o th p0 q0 r0 (d.toInt64 * d.toInt64) zz)), (o 5, .inl (dA 1, 2640, .inr (.inl fA))), (o 6, .inl (dA 1, 32, .inr (.inl (ptR p0 x y z d))))]) hD hS (fun q h => hA q h) [0, 1, 2] rfl
                        refine c_i (wr := []) (va_runV (As := [.int (nI 24)]) (rest := []) ⟨hx, hb, hml, hown, hts⟩ (x7_puts Z (va_A [(o 0, .inr (2, mFs o th p0 q0 r0 (d.toInt64 * d.toInt64) zz)), (o 5, .inl (dA 1, 2640, .inr (.inl fA))), (o 6, .inl (dA 1, 32, .inr (.inl (ptR p0 x y z d))))] H.size) H.size (fun q h => Or.inr h) o th p0 q0 r0 (d.toInt64 * d.toInt64) zz fA (ptR p0 x y z d) 24 (by omega) (pt_mu h_d) (fun j hj => ptR_nm h_b (by omega) j)) (cwV 1 hts (lw_V q2127 q2129 qs40 q107 q2130) rfl rfl rfl (by decide +kernel) ⟨Nat.le_of_ble_eq_true rfl, Nat.le_of_ble_eq_true rfl⟩) (gP_V (va_recv hK hP (ci := 2) (q0 := 0) rfl rfl) hG hS (fun q _ h => hF9 q h) ⟨rfl, (hP.sub (ws' := [(o 0, .inr (2, mFs o th p0 q0 r0 (d.toInt64 * d.toInt64) zz)), (o 5, .inl (dA 1, 2640, .inr (.inl fA))), (o 6, .inl (dA 1, 32, .inr (.inl (ptR p0 x y z d))))]) [0, 1, 2] rfl), (hD.sub (ws' := [(o 0, .inr (2, mFs o th p0 q0 r0 (d.toInt64 * d.toInt64) zz)), (o 5, .inl (dA 1, 2640, .inr (.inl fA))), (o 6, .inl (dA 1, 32, .inr (.inl (ptR p0 x y z d))))]) [0, 1, 2] (by decide) rfl).self⟩) rfl rfl hl.1 rfl (lv_room (Nat.le_of_ble_eq_true rfl)) dX7_point_242 ⟨by first | decide | omega, by first | decide | omega⟩) hP hD hS hA [0, 1, 2] [] rfl rfl (by decide) (by decide) (fun r9 u9 H locs hq hX hz hk hP hD hS => ?_)
                        obtain ⟨fA_5, fM_6, mu_7⟩ := u9
                        obtain ⟨r_8, rfl⟩ : ∃ z, z = r9 := ⟨_, rfl⟩
                        have hq_9 := hq
                        try dsimp only at hq_9
                        have hP : va_P (dC, dI) vwCl [(o 0, .inr (2, mFs o th p0 q0 r0 mu_7 zz)), (o 5, .inl (dA 1, 2640, .inr (.inl fA_5))), (o 6, .inl (dA 1, 32, .inr (.inl fM_6)))] H := hP
                        have hD : va_D A [(o 0, .inr (2, mFs o th p0 q0 r0 mu_7 zz)), (o 5, .inl (dA 1, 2640, .inr (.inl fA_5))), (o 6, .inl (dA 1, 32, .inr (.inl fM_6)))] := hD
                        rcases hq_9.cases with ⟨P_10, e_10, rfl, hH_10, hS_10⟩ | ⟨e_10, rfl, hE_10⟩
                        · have sm_11 : MSm P_10 := fitS_sm (pt_mu h_d) e_10
                          have hh_12 := hS_10.hold (j := jt) (by omega) (hR jt (by omega))
                          refine lv_if_eq (tgt := 258) hx hb dX7_point_245 (by decide) (fun c_245 => ?_) (fun c_245 => ?_)
                          · exact absurd c_245 (by decide)
                          refine lv_aload_n hx hb dX7_point_248 rfl (lv_at hl 0 rfl) ?_
                          refine lv_bipush (v := nI 24) hx hb dX7_point_249 (by decide) ?_
                          refine lv_iload_n hx hb dX7_point_251 rfl (lv_at hl 1 rfl) ?_
                          have hF9 := va_free (wc := [(o 0, .inr (2, mFs o th p0 q0 r0 mu_7 zz)), (o 5, .inl (dA 1, 2640, .inr (.inl fA_5)))]) hD hS (fun q h => hA q h) [0, 1] rfl
                          refine c_i (wr := [(o 6, .inl (dA 1, 32, .inr (.inl fM_6)))]) (va_runV (As := [.int (nI 24), .int (nI jt)]) (rest := []) ⟨hx, hb, hml, hown, hts⟩ (x7_gives Z (va_A [(o 0, .inr (2, mFs o th p0 q0 r0 mu_7 zz)), (o 5, .inl (dA 1, 2640, .inr (.inl fA_5)))] H.size) H.size (fun q h => Or.inr h) o th p0 q0 r0 mu_7 zz fA_5 fM_6 24 jt (by omega) (by omega)) (cwV 2 hts (lw_V q2181 q2183 qs48 q107 q2184) rfl rfl rfl (by decide +kernel) ⟨Nat.le_of_ble_eq_true rfl, Nat.le_of_ble_eq_true rfl⟩) (gP_V (va_recv hK hP (ci := 2) (q0 := 0) rfl rfl) hG hS (fun q _ h => hF9 q h) ⟨rfl, (hP.sub (ws' := [(o 0, .inr (2, mFs o th p0 q0 r0 mu_7 zz)), (o 5, .inl (dA 1, 2640, .inr (.inl fA_5)))]) [0, 1] rfl), (hD.sub (ws' := [(o 0, .inr (2, mFs o th p0 q0 r0 mu_7 zz)), (o 5, .inl (dA 1, 2640, .inr (.inl fA_5)))]) [0, 1] (by decide) rfl).self⟩) rfl rfl hl.1 rfl (lv_room (Nat.le_of_ble_eq_true rfl)) dX7_point_252 ⟨by first | decide | omega, by first | decide | omega⟩) hP hD hS hA [0, 1] [2] rfl rfl (by decide) (by decide) (fun r9 u9 H locs hq hX hz hk hP hD hS => ?_)
                          obtain ⟨r_13, rfl⟩ : ∃ z, z = r9 := ⟨_, rfl⟩
                          obtain rfl := hq
                          have hP : va_P (dC, dI) vwCl [(o 6, .inl (dA 1, 32, .inr (.inl fM_6))), (o 0, .inr (2, mFs o (nI 0) p0 q0 r0 mu_7 zz)), (o 5, .inl (dA 1, 2640, .inr (.inl (cpS fA_5 24 jt))))] H := hP
                          have hD : va_D A [(o 6, .inl (dA 1, 32, .inr (.inl fM_6))), (o 0, .inr (2, mFs o (nI 0) p0 q0 r0 mu_7 zz)), (o 5, .inl (dA 1, 2640, .inr (.inl (cpS fA_5 24 jt))))] := hD
                          have hc_15 := cpS_hold (t := jt) hH_10
                          have hs_16 := cpS_same (fA := fA_5) (k := 24) (t := jt)
                          generalize cpS fA_5 24 jt = fA_14 at hP hD hc_15 hs_16 ⊢
                          have hh_17 := hs_16.hold (j := 24) (by omega) hH_10
                          refine lv_goto (tgt := 263) hx hb dX7_point_255 (by decide) ?_
                          subst hQe
                          exact W.iret (v := nI (cntN (fun j => fA_14 (33 * jt + 1 + j)) 32)) hx hb hr (fun tz ht hW => ⟨⟨_, (fA_14, fM_6, mu_7, nI 0), rfl, (by rw [rg_n (show jt < 8 by omega)]; exact ModPost.mk1 (P := P_10) (by simp [ptX, rgB, optC, h_t, h_b, h_c, e_10, rg_n (show jt < 8 by omega), nI_clamp (show jt < 2 ^ 31 by omega)]) hc_15 (fun k9 hk9 i9 hi9 => by (try dsimp only [outH] at hk9); show fA_14 (33 * k9 + i9) = fA (33 * k9 + i9); rw [hs_16 _ (by omega), hS_10 _ (by omega)])), B1_at ht (hP.sub [1, 2, 0] rfl) (hD.sub [1, 2, 0] (by decide) rfl) trivial⟩, hS.F ht⟩) hS.2.2 dX7_point_263
                        · have hh_18 : Hold fA_5 jt (Ms jt) := by rw [hE_10]; exact (hR jt (by omega))
                          refine lv_if_eq (tgt := 258) hx hb dX7_point_245 (by decide) (fun c_245 => ?_) (fun c_245 => ?_)
                          rotate_left
                          · exact absurd (by decide) c_245
                          refine lv_aload_n hx hb dX7_point_258 rfl (lv_at hl 0 rfl) ?_
                          refine lv_iconst (v := nI 4) hx hb dX7_point_259 (by decide) ?_
                          have hF9 := va_free (wc := [(o 0, .inr (2, mFs o th p0 q0 r0 mu_7 zz))]) hD hS (fun q h => hA q h) [0] rfl
                          refine c_i (wr := [(o 5, .inl (dA 1, 2640, .inr (.inl fA_5))), (o 6, .inl (dA 1, 32, .inr (.inl fM_6)))]) (va_runV (As := [.int (nI 4)]) (rest := []) ⟨hx, hb, hml, hown, hts⟩ (x7_refuses Z (va_A [(o 0, .inr (2, mFs o th p0 q0 r0 mu_7 zz))] H.size) H.size (fun q h => Or.inr h) o th p0 q0 r0 mu_7 zz (nI 4)) (cwV 1 hts (lw_V q2100 q2102 qs34 q107 q2103) rfl rfl rfl (by decide +kernel) ⟨Nat.le_of_ble_eq_true rfl, Nat.le_of_ble_eq_true rfl⟩) (gP_V (va_recv hK hP (ci := 2) (q0 := 0) rfl rfl) hG hS (fun q _ h => hF9 q h) ⟨rfl, (hP.sub (ws' := [(o 0, .inr (2, mFs o th p0 q0 r0 mu_7 zz))]) [0] rfl), (hD.sub (ws' := [(o 0, .inr (2, mFs o th p0 q0 r0 mu_7 zz))]) [0] (by decide) rfl).self⟩) rfl rfl hl.1 rfl (lv_room (Nat.le_of_ble_eq_true rfl)) dX7_point_260 ⟨by first | decide | omega, by first | decide | omega⟩) hP hD hS hA [0] [1, 2] rfl rfl (by decide) (by decide) (fun r9 u9 H locs hq hX hz hk hP hD hS => ?_)
                          obtain ⟨r_19, rfl⟩ : ∃ z, z = r9 := ⟨_, rfl⟩
                          obtain rfl := hq
                          have hP : va_P (dC, dI) vwCl [(o 5, .inl (dA 1, 2640, .inr (.inl fA_5))), (o 6, .inl (dA 1, 32, .inr (.inl fM_6))), (o 0, .inr (2, mFs o (nI 4) p0 q0 r0 mu_7 zz))] H := hP
                          have hD : va_D A [(o 5, .inl (dA 1, 2640, .inr (.inl fA_5))), (o 6, .inl (dA 1, 32, .inr (.inl fM_6))), (o 0, .inr (2, mFs o (nI 4) p0 q0 r0 mu_7 zz))] := hD
                          subst hQe
                          exact W.iret (v := nI 0) hx hb hr (fun tz ht hW => ⟨⟨_, (fA_5, fM_6, mu_7, nI 4), rfl, ModPost.mk0 (c := nI 4) (by simp [ptX, rgB, optC, h_t, h_b, h_c, e_10, rg_n (show jt < 8 by omega), nI_clamp (show jt < 2 ^ 31 by omega)]) (fun k9 hk9 i9 hi9 => by (try dsimp only [outH] at hk9); show fA_5 (33 * k9 + i9) = fA (33 * k9 + i9); rw [hE_10]), B1_at ht (hP.sub [2, 0, 1] rfl) (hD.sub [2, 0, 1] (by decide) rfl) trivial⟩, hS.F ht⟩) hS.2.2 dX7_point_263
                      · have c_146 : ¬ (p0 - 1) ≤ k := fun h => c_146 ((nI_leI (a := (p0 - 1)) (b := k) (by omega) (by omega)).mpr h)
                        have hk7 : 2 ^ k < 32 := p5 (by omega)
                        refine lv_iload hx hb dX7_point_149 (lv_at hl 8 rfl) ?_
                        refine lv_iload_n hx hb dX7_point_151 rfl (lv_at hl 2 rfl) ?_
                        refine lv_iload_n hx hb dX7_point_152 rfl (lv_at hl 3 rfl) ?_
                        refine lv_iload hx hb dX7_point_153 (lv_at hl 4 rfl) ?_
                        refine s_i (va_runS (As := [.int (nI k), .int x, .int y, .int z]) (rest := []) ⟨hx, hb, hml, hown, hts⟩ (x7_coordinate Z k x y z (by omega)) (va_cwS 4 hts (lw_S q2387 q2388 q107 q2389) rfl rfl rfl (by decide +kernel) ⟨Nat.le_of_ble_eq_true rfl, Nat.le_of_ble_eq_true rfl⟩) (gP_S hG hS (fun q _ h => h.elim) trivial) rfl rfl hl.1 rfl (lv_room (Nat.le_of_ble_eq_true rfl)) dX7_point_155 ⟨by first | decide | omega, by first | decide | omega⟩) ?_
                        refine lv_i2l (v := (coV k x y z).toInt64) hx hb dX7_point_158 rfl ?_
                        refine lv_lstore (lv' := [(10, .long ((coV k x y z).toInt64)), (0, .ref (o 0)), (1, .int (nI jt)), (2, .int x), (3, .int y), (4, .int z), (5, .int d), (6, .int (bI ((coB x && coB y && coB z && inB d (nI 1) (nI 100)) && czN x y z (pk0 p0 q0 r0) (3 - pk0 p0 q0 r0)))), (7, .long (ptQ x y z k)), (9, .int (nI k))]) hx hb dX7_point_159 hl (by decide) rfl (fun ls hl => ?_)
                        refine lv_aload_n hx hb dX7_point_161 rfl (lv_at hl 1 rfl) ?_
                        refine va_get (D := (dC, dI)) (ci := 2) (v := .ref (o 6)) (C := RX7) (T := TX7) (N := 27) hx hb hts in_X7 hown hK hP 0 rfl rfl 9 (by decide) (hts _ q2015) (fun _ h9 => h9) rfl dX7_point_162 ?_
                        refine lv_iconst (v := nI 1) hx hb dX7_point_165 (by decide) ?_
                        refine lv_iload hx hb dX7_point_166 (lv_at hl 9 rfl) ?_
                        refine lv_ishl hx hb dX7_point_168 ?_
                        refine e_i (y := nI (2 ^ k)) (n_shl1 (by omega)) ?_
                        refine lv_ldc2 hx hb hown (hts _ q2175) dX7_point_169 ?_
                        refine lv_lload hx hb dX7_point_172 (lv_at hl 0 rfl) ?_
                        refine lv_lmul hx hb dX7_point_174 ?_
                        refine lv_iload hx hb dX7_point_175 (lv_at hl 6 rfl) ?_
                        refine lv_i2l (v := d.toInt64) hx hb dX7_point_177 rfl ?_
                        refine lv_lmul hx hb dX7_point_178 ?_
                        refine a_last hx hb hK hP hD hS 2 1 rfl rfl (by omega) (by omega) dX7_point_179 (fun H locs hP hD hS => ?_)
                        have hP : va_P (dC, dI) vwCl [(o 0, .inr (2, mFs o th p0 q0 r0 1 zz)), (o 5, .inl (dA 1, 2640, .inr (.inl fA))), (o 6, .inl (dA 1, 32, .inr (.inl (vp_updL (pvS (ptV x y z d) k) (2 ^ k) (((2 : Int64) * ((coV k x y z).toInt64)) * d.toInt64)))))] H := hP
                        have hD : va_D A [(o 0, .inr (2, mFs o th p0 q0 r0 1 zz)), (o 5, .inl (dA 1, 2640, .inr (.inl fA))), (o 6, .inl (dA 1, 32, .inr (.inl (vp_updL (pvS (ptV x y z d) k) (2 ^ k) (((2 : Int64) * ((coV k x y z).toInt64)) * d.toInt64)))))] := hD
                        have e9 : (vp_updL (pvS (ptV x y z d) k) (2 ^ k) (((2 : Int64) * ((coV k x y z).toInt64)) * d.toInt64) : Nat → Int64) = (pvS (ptV x y z d) (k + 1)) := rfl
                        rw [e9] at hP hD; clear e9
                        refine lv_lload hx hb dX7_point_180 (lv_at hl 8 rfl) ?_
                        refine lv_lload hx hb dX7_point_182 (lv_at hl 0 rfl) ?_
                        refine lv_lload hx hb dX7_point_184 (lv_at hl 0 rfl) ?_
                        refine lv_lmul hx hb dX7_point_186 ?_
                        refine lv_ladd hx hb dX7_point_187 ?_
                        refine lv_lstore (lv' := [(7, .long ((ptQ x y z k) + (((coV k x y z).toInt64) * ((coV k x y z).toInt64)))), (10, .long ((coV k x y z).toInt64)), (0, .ref (o 0)), (1, .int (nI jt)), (2, .int x), (3, .int y), (4, .int z), (5, .int d), (6, .int (bI ((coB x && coB y && coB z && inB d (nI 1) (nI 100)) && czN x y z (pk0 p0 q0 r0) (3 - pk0 p0 q0 r0)))), (9, .int (nI k))]) hx hb dX7_point_188 hl (by decide) rfl (fun ls hl => ?_)
                        have hl : lv_has ls 12 [(7, .long (ptQ x y z (k + 1))), (10, .long ((coV k x y z).toInt64)), (0, .ref (o 0)), (1, .int (nI jt)), (2, .int x), (3, .int y), (4, .int z), (5, .int d), (6, .int (bI ((coB x && coB y && coB z && inB d (nI 1) (nI 100)) && czN x y z (pk0 p0 q0 r0) (3 - pk0 p0 q0 r0)))), (9, .int (nI k))] := by rw [show ptQ x y z (k + 1) = (ptQ x y z k) + (((coV k x y z).toInt64) * ((coV k x y z).toInt64)) from rfl]; exact hl
                        refine lv_iinc (v := nI (k + 1)) (lv' := [(9, .int (nI (k + 1))), (7, .long (ptQ x y z (k + 1))), (10, .long ((coV k x y z).toInt64)), (0, .ref (o 0)), (1, .int (nI jt)), (2, .int x), (3, .int y), (4, .int z), (5, .int d), (6, .int (bI ((coB x && coB y && coB z && inB d (nI 1) (nI 100)) && czN x y z (pk0 p0 q0 r0) (3 - pk0 p0 q0 r0))))]) hx hb dX7_point_190 hl (k := 9) rfl (by exact nI_add _ 1) (by decide) rfl (fun ls hl => ?_)
                        refine lv_goto (tgt := 140) hx hb dX7_point_193 (by decide) ?_
                        exact ih_4 (k + 1) H locs ls (by omega) (by omega) (hP.sub [0, 1, 2] rfl) (hD.sub [0, 1, 2] (by decide) rfl) hS (lv_sub hl [3, 4, 5, 6, 7, 8, 9, 1, 0] rfl)
                  exact loop_4 _ 0 H locs ls (Nat.lt_succ_self _) (by omega) hP hD hS (lv_sub hl [2, 3, 4, 5, 6, 7, 8, 1, 0] rfl)
                · have h_c := bI_0 c_121
                  refine lv_aload_n hx hb dX7_point_124 rfl (lv_at hl 0 rfl) ?_
                  refine lv_iconst (v := nI 3) hx hb dX7_point_125 (by decide) ?_
                  have hF9 := va_free (wc := [(o 0, .inr (2, mFs o th p0 q0 r0 mu zz))]) hD hS (fun q h => hA q h) [0] rfl
                  refine c_i (wr := [(o 5, .inl (dA 1, 2640, .inr (.inl fA))), (o 6, .inl (dA 1, 32, .inr (.inl fM)))]) (va_runV (As := [.int (nI 3)]) (rest := []) ⟨hx, hb, hml, hown, hts⟩ (x7_refuses Z (va_A [(o 0, .inr (2, mFs o th p0 q0 r0 mu zz))] H.size) H.size (fun q h => Or.inr h) o th p0 q0 r0 mu zz (nI 3)) (cwV 1 hts (lw_V q2100 q2102 qs34 q107 q2103) rfl rfl rfl (by decide +kernel) ⟨Nat.le_of_ble_eq_true rfl, Nat.le_of_ble_eq_true rfl⟩) (gP_V (va_recv hK hP (ci := 2) (q0 := 0) rfl rfl) hG hS (fun q _ h => hF9 q h) ⟨rfl, (hP.sub (ws' := [(o 0, .inr (2, mFs o th p0 q0 r0 mu zz))]) [0] rfl), (hD.sub (ws' := [(o 0, .inr (2, mFs o th p0 q0 r0 mu zz))]) [0] (by decide) rfl).self⟩) rfl rfl hl.1 rfl (lv_room (Nat.le_of_ble_eq_true rfl)) dX7_point_126 ⟨by first | decide | omega, by first | decide | omega⟩) hP hD hS hA [0] [1, 2] rfl rfl (by decide) (by decide) (fun r9 u9 H locs hq hX hz hk hP hD hS => ?_)
                  obtain ⟨r_20, rfl⟩ : ∃ z, z = r9 := ⟨_, rfl⟩
                  obtain rfl := hq
                  have hP : va_P (dC, dI) vwCl [(o 5, .inl (dA 1, 2640, .inr (.inl fA))), (o 6, .inl (dA 1, 32, .inr (.inl fM))), (o 0, .inr (2, mFs o (nI 3) p0 q0 r0 mu zz))] H := hP
                  have hD : va_D A [(o 5, .inl (dA 1, 2640, .inr (.inl fA))), (o 6, .inl (dA 1, 32, .inr (.inl fM))), (o 0, .inr (2, mFs o (nI 3) p0 q0 r0 mu zz))] := hD
                  subst hQe
                  exact W.iret (v := nI 0) hx hb hr (fun tz ht hW => ⟨⟨_, (fA, fM, mu, nI 3), rfl, ModPost.mk0 (c := nI 3) (by simp [ptX, rgB, optC, h_t, h_b, h_c, rg_n (show jt < 8 by omega), nI_clamp (show jt < 2 ^ 31 by omega)]) (fun k9 hk9 i9 hi9 => rfl), B1_at ht (hP.sub [2, 0, 1] rfl) (hD.sub [2, 0, 1] (by decide) rfl) trivial⟩, hS.F ht⟩) hS.2.2 dX7_point_129
              · have h_b : ptB p0 q0 r0 x y z d = false := bI_0 c_108
                refine lv_aload_n hx hb dX7_point_111 rfl (lv_at hl 0 rfl) ?_
                refine lv_iconst (v := nI 2) hx hb dX7_point_112 (by decide) ?_
                have hF9 := va_free (wc := [(o 0, .inr (2, mFs o th p0 q0 r0 mu zz))]) hD hS (fun q h => hA q h) [0] rfl
                refine c_i (wr := [(o 5, .inl (dA 1, 2640, .inr (.inl fA))), (o 6, .inl (dA 1, 32, .inr (.inl fM)))]) (va_runV (As := [.int (nI 2)]) (rest := []) ⟨hx, hb, hml, hown, hts⟩ (x7_refuses Z (va_A [(o 0, .inr (2, mFs o th p0 q0 r0 mu zz))] H.size) H.size (fun q h => Or.inr h) o th p0 q0 r0 mu zz (nI 2)) (cwV 1 hts (lw_V q2100 q2102 qs34 q107 q2103) rfl rfl rfl (by decide +kernel) ⟨Nat.le_of_ble_eq_true rfl, Nat.le_of_ble_eq_true rfl⟩) (gP_V (va_recv hK hP (ci := 2) (q0 := 0) rfl rfl) hG hS (fun q _ h => hF9 q h) ⟨rfl, (hP.sub (ws' := [(o 0, .inr (2, mFs o th p0 q0 r0 mu zz))]) [0] rfl), (hD.sub (ws' := [(o 0, .inr (2, mFs o th p0 q0 r0 mu zz))]) [0] (by decide) rfl).self⟩) rfl rfl hl.1 rfl (lv_room (Nat.le_of_ble_eq_true rfl)) dX7_point_113 ⟨by first | decide | omega, by first | decide | omega⟩) hP hD hS hA [0] [1, 2] rfl rfl (by decide) (by decide) (fun r9 u9 H locs hq hX hz hk hP hD hS => ?_)
                obtain ⟨r_21, rfl⟩ : ∃ z, z = r9 := ⟨_, rfl⟩
                obtain rfl := hq
                have hP : va_P (dC, dI) vwCl [(o 5, .inl (dA 1, 2640, .inr (.inl fA))), (o 6, .inl (dA 1, 32, .inr (.inl fM))), (o 0, .inr (2, mFs o (nI 2) p0 q0 r0 mu zz))] H := hP
                have hD : va_D A [(o 5, .inl (dA 1, 2640, .inr (.inl fA))), (o 6, .inl (dA 1, 32, .inr (.inl fM))), (o 0, .inr (2, mFs o (nI 2) p0 q0 r0 mu zz))] := hD
                subst hQe
                exact W.iret (v := nI 0) hx hb hr (fun tz ht hW => ⟨⟨_, (fA, fM, mu, nI 2), rfl, ModPost.mk0 (c := nI 2) (by simp [ptX, rgB, optC, h_t, h_b, rg_n (show jt < 8 by omega), nI_clamp (show jt < 2 ^ 31 by omega)]) (fun k9 hk9 i9 hi9 => rfl), B1_at ht (hP.sub [2, 0, 1] rfl) (hD.sub [2, 0, 1] (by decide) rfl) trivial⟩, hS.F ht⟩) hS.2.2 dX7_point_116
            · have c_73 : ¬ 3 ≤ (pk0 p0 q0 r0 + i) := fun h => c_73 ((nI_leI (a := 3) (b := (pk0 p0 q0 r0 + i)) (by omega) (by omega)).mpr h)
              refine lv_iload hx hb dX7_point_76 (lv_at hl 6 rfl) ?_
              refine lv_if_eq (tgt := 97) hx hb dX7_point_78 (by decide) (fun c_78 => ?_) (fun c_78 => ?_)
              · refine lv_iconst (v := nI 0) hx hb dX7_point_97 (by decide) ?_
                refine e_i (y := bI ((coB x && coB y && coB z && inB d (nI 1) (nI 100)) && czN x y z (pk0 p0 q0 r0) (i + 1))) ((by show _ = bI ((coB x && coB y && coB z && inB d (nI 1) (nI 100)) && (czN x y z (pk0 p0 q0 r0) i && decide (coV (pk0 p0 q0 r0 + i) x y z = 0))); rw [← Bool.and_assoc, bI_0 c_78, Bool.false_and]; rfl)) ?_
                refine lv_istore (lv' := [(6, .int (bI ((coB x && coB y && coB z && inB d (nI 1) (nI 100)) && czN x y z (pk0 p0 q0 r0) (i + 1)))), (0, .ref (o 0)), (1, .int (nI jt)), (2, .int x), (3, .int y), (4, .int z), (5, .int d), (7, .int (nI (pk0 p0 q0 r0 + i)))]) hx hb dX7_point_98 hl (by decide) rfl (fun ls hl => ?_)
                refine lv_iinc (v := nI (pk0 p0 q0 r0 + i + 1)) (lv' := [(7, .int (nI (pk0 p0 q0 r0 + i + 1))), (6, .int (bI ((coB x && coB y && coB z && inB d (nI 1) (nI 100)) && czN x y z (pk0 p0 q0 r0) (i + 1)))), (0, .ref (o 0)), (1, .int (nI jt)), (2, .int x), (3, .int y), (4, .int z), (5, .int d)]) hx hb dX7_point_100 hl (k := 7) rfl (by exact nI_add _ 1) (by decide) rfl (fun ls hl => ?_)
                refine lv_goto (tgt := 70) hx hb dX7_point_103 (by decide) ?_
                exact ih_3 (i + 1) H locs ls (by omega) (by omega) (hP.sub [0, 1, 2] rfl) (hD.sub [0, 1, 2] (by decide) rfl) hS (lv_sub hl [2, 3, 4, 5, 6, 7, 1, 0] rfl)
              · refine lv_iload hx hb dX7_point_81 (lv_at hl 7 rfl) ?_
                refine lv_iload_n hx hb dX7_point_83 rfl (lv_at hl 2 rfl) ?_
                refine lv_iload_n hx hb dX7_point_84 rfl (lv_at hl 3 rfl) ?_
                refine lv_iload hx hb dX7_point_85 (lv_at hl 4 rfl) ?_
                refine s_i (va_runS (As := [.int (nI (pk0 p0 q0 r0 + i)), .int x, .int y, .int z]) (rest := []) ⟨hx, hb, hml, hown, hts⟩ (x7_coordinate Z (pk0 p0 q0 r0 + i) x y z (by omega)) (va_cwS 4 hts (lw_S q2387 q2388 q107 q2389) rfl rfl rfl (by decide +kernel) ⟨Nat.le_of_ble_eq_true rfl, Nat.le_of_ble_eq_true rfl⟩) (gP_S hG hS (fun q _ h => h.elim) trivial) rfl rfl hl.1 rfl (lv_room (Nat.le_of_ble_eq_true rfl)) dX7_point_87 ⟨by first | decide | omega, by first | decide | omega⟩) ?_
                refine lv_if_ne (tgt := 97) hx hb dX7_point_90 (by decide) (fun c_90 => ?_) (fun c_90 => ?_)
                · refine lv_iconst (v := nI 0) hx hb dX7_point_97 (by decide) ?_
                  refine e_i (y := bI ((coB x && coB y && coB z && inB d (nI 1) (nI 100)) && czN x y z (pk0 p0 q0 r0) (i + 1))) ((by show _ = bI ((coB x && coB y && coB z && inB d (nI 1) (nI 100)) && (czN x y z (pk0 p0 q0 r0) i && decide (coV (pk0 p0 q0 r0 + i) x y z = 0))); rw [← Bool.and_assoc, decide_eq_false c_90, Bool.and_false]; rfl)) ?_
                  refine lv_istore (lv' := [(6, .int (bI ((coB x && coB y && coB z && inB d (nI 1) (nI 100)) && czN x y z (pk0 p0 q0 r0) (i + 1)))), (0, .ref (o 0)), (1, .int (nI jt)), (2, .int x), (3, .int y), (4, .int z), (5, .int d), (7, .int (nI (pk0 p0 q0 r0 + i)))]) hx hb dX7_point_98 hl (by decide) rfl (fun ls hl => ?_)
                  refine lv_iinc (v := nI (pk0 p0 q0 r0 + i + 1)) (lv' := [(7, .int (nI (pk0 p0 q0 r0 + i + 1))), (6, .int (bI ((coB x && coB y && coB z && inB d (nI 1) (nI 100)) && czN x y z (pk0 p0 q0 r0) (i + 1)))), (0, .ref (o 0)), (1, .int (nI jt)), (2, .int x), (3, .int y), (4, .int z), (5, .int d)]) hx hb dX7_point_100 hl (k := 7) rfl (by exact nI_add _ 1) (by decide) rfl (fun ls hl => ?_)
                  refine lv_goto (tgt := 70) hx hb dX7_point_103 (by decide) ?_
                  exact ih_3 (i + 1) H locs ls (by omega) (by omega) (hP.sub [0, 1, 2] rfl) (hD.sub [0, 1, 2] (by decide) rfl) hS (lv_sub hl [2, 3, 4, 5, 6, 7, 1, 0] rfl)
                · refine lv_iconst (v := nI 1) hx hb dX7_point_93 (by decide) ?_
                  refine lv_goto (tgt := 98) hx hb dX7_point_94 (by decide) ?_
                  refine e_i (y := bI ((coB x && coB y && coB z && inB d (nI 1) (nI 100)) && czN x y z (pk0 p0 q0 r0) (i + 1))) ((by show _ = bI ((coB x && coB y && coB z && inB d (nI 1) (nI 100)) && (czN x y z (pk0 p0 q0 r0) i && decide (coV (pk0 p0 q0 r0 + i) x y z = 0))); rw [← Bool.and_assoc, bI_1 c_78, decide_eq_true c_90]; rfl)) ?_
                  refine lv_istore (lv' := [(6, .int (bI ((coB x && coB y && coB z && inB d (nI 1) (nI 100)) && czN x y z (pk0 p0 q0 r0) (i + 1)))), (0, .ref (o 0)), (1, .int (nI jt)), (2, .int x), (3, .int y), (4, .int z), (5, .int d), (7, .int (nI (pk0 p0 q0 r0 + i)))]) hx hb dX7_point_98 hl (by decide) rfl (fun ls hl => ?_)
                  refine lv_iinc (v := nI (pk0 p0 q0 r0 + i + 1)) (lv' := [(7, .int (nI (pk0 p0 q0 r0 + i + 1))), (6, .int (bI ((coB x && coB y && coB z && inB d (nI 1) (nI 100)) && czN x y z (pk0 p0 q0 r0) (i + 1)))), (0, .ref (o 0)), (1, .int (nI jt)), (2, .int x), (3, .int y), (4, .int z), (5, .int d)]) hx hb dX7_point_100 hl (k := 7) rfl (by exact nI_add _ 1) (by decide) rfl (fun ls hl => ?_)
                  refine lv_goto (tgt := 70) hx hb dX7_point_103 (by decide) ?_
                  exact ih_3 (i + 1) H locs ls (by omega) (by omega) (hP.sub [0, 1, 2] rfl) (hD.sub [0, 1, 2] (by decide) rfl) hS (lv_sub hl [2, 3, 4, 5, 6, 7, 1, 0] rfl)
        exact loop_3 _ 0 H locs ls (Nat.lt_succ_self _) (by omega) hP hD hS (lv_sub hl [2, 3, 4, 5, 6, 7, 1, 0] rfl)
      refine lv_aload_n hx hb dX7_point_53 rfl (lv_at hl 1 rfl) ?_
      refine s_i (va_runV (As := []) (rest := []) ⟨hx, hb, hml, hown, hts⟩ (x7_isConformal Z o th p0 q0 r0 mu zz (by omega)) (cwV 0 hts (lw_V q2379 q2381 qs70 q107 q2382) rfl rfl rfl (by decide +kernel) ⟨Nat.le_of_ble_eq_true rfl, Nat.le_of_ble_eq_true rfl⟩) (gP_V (va_recv hK hP (ci := 2) (q0 := 0) rfl rfl) hG hS (fun q _ h => h.elim) (hP.sub (ws' := [(o 0, .inr (2, mFs o th p0 q0 r0 mu zz))]) [0] rfl)) rfl rfl hl.1 rfl (lv_room (Nat.le_of_ble_eq_true rfl)) dX7_point_54 ⟨by first | decide | omega, by first | decide | omega⟩) ?_
      refine lv_if_eq (tgt := 67) hx hb dX7_point_57 (by decide) (fun c_57 => ?_) (fun c_57 => ?_)
      · refine lv_iconst (v := nI 3) hx hb dX7_point_67 (by decide) ?_
        refine e_i (y := nI (pk0 p0 q0 r0)) (n_eq (by unfold pk0; rw [if_neg (by rw [bI_0 c_57]; decide)])) ?_
        exact J_2  H locs ls  (hP.sub [0, 1, 2] rfl) (hD.sub [0, 1, 2] (by decide) rfl) hS (lv_sub hl [0, 1, 2, 3, 4, 5, 6] rfl)
      · have hcf := cf_p (bI_1 c_57)
        refine lv_aload_n hx hb dX7_point_60 rfl (lv_at hl 1 rfl) ?_
        refine s_i (va_runV (As := []) (rest := []) ⟨hx, hb, hml, hown, hts⟩ (x7_dimension Z o th p0 q0 r0 mu zz (by omega)) (cwV 0 hts (lw_V q2383 q2385 qs71 q107 q2386) rfl rfl rfl (by decide +kernel) ⟨Nat.le_of_ble_eq_true rfl, Nat.le_of_ble_eq_true rfl⟩) (gP_V (va_recv hK hP (ci := 2) (q0 := 0) rfl rfl) hG hS (fun q _ h => h.elim) (hP.sub (ws' := [(o 0, .inr (2, mFs o th p0 q0 r0 mu zz))]) [0] rfl)) rfl rfl hl.1 rfl (lv_room (Nat.le_of_ble_eq_true rfl)) dX7_point_61 ⟨by first | decide | omega, by first | decide | omega⟩) ?_
        refine lv_goto (tgt := 68) hx hb dX7_point_64 (by decide) ?_
        refine e_i (y := nI (pk0 p0 q0 r0)) (n_eq (by unfold pk0; rw [if_pos (bI_1 c_57)])) ?_
        exact J_2  H locs ls  (hP.sub [0, 1, 2] rfl) (hD.sub [0, 1, 2] (by decide) rfl) hS (lv_sub hl [0, 1, 2, 3, 4, 5, 6] rfl)
    refine lv_iload_n hx hb dX7_point_13 rfl (lv_at hl 2 rfl) ?_
    refine s_i (va_runS (As := [.int x]) (rest := []) ⟨hx, hb, hml, hown, hts⟩ (x7_isCoordinate Z x) (va_cwS 1 hts (lw_S q2376 q2377 q107 q2378) rfl rfl rfl (by decide +kernel) ⟨Nat.le_of_ble_eq_true rfl, Nat.le_of_ble_eq_true rfl⟩) (gP_S hG hS (fun q _ h => h.elim) trivial) rfl rfl hl.1 rfl (lv_room (Nat.le_of_ble_eq_true rfl)) dX7_point_14 ⟨by first | decide | omega, by first | decide | omega⟩) ?_
    refine lv_if_eq (tgt := 50) hx hb dX7_point_17 (by decide) (fun c_17 => ?_) (fun c_17 => ?_)
    · refine lv_iconst (v := nI 0) hx hb dX7_point_50 (by decide) ?_
      refine e_i (y := bI (coB x && coB y && coB z && inB d (nI 1) (nI 100))) ((by rw [bI_0 c_17]; rfl)) ?_
      exact J_1  s.heap [] ls  (hP.sub [0, 1, 2] rfl) (hD.sub [0, 1, 2] (by decide) rfl) hS (lv_sub hl [0, 1, 2, 3, 4, 5] rfl)
    · refine lv_iload_n hx hb dX7_point_20 rfl (lv_at hl 3 rfl) ?_
      refine s_i (va_runS (As := [.int y]) (rest := []) ⟨hx, hb, hml, hown, hts⟩ (x7_isCoordinate Z y) (va_cwS 1 hts (lw_S q2376 q2377 q107 q2378) rfl rfl rfl (by decide +kernel) ⟨Nat.le_of_ble_eq_true rfl, Nat.le_of_ble_eq_true rfl⟩) (gP_S hG hS (fun q _ h => h.elim) trivial) rfl rfl hl.1 rfl (lv_room (Nat.le_of_ble_eq_true rfl)) dX7_point_21 ⟨by first | decide | omega, by first | decide | omega⟩) ?_
      refine lv_if_eq (tgt := 50) hx hb dX7_point_24 (by decide) (fun c_24 => ?_) (fun c_24 => ?_)
      · refine lv_iconst (v := nI 0) hx hb dX7_point_50 (by decide) ?_
        refine e_i (y := bI (coB x && coB y && coB z && inB d (nI 1) (nI 100))) ((by rw [bI_0 c_24, Bool.and_false]; rfl)) ?_
        exact J_1  s.heap [] ls  (hP.sub [0, 1, 2] rfl) (hD.sub [0, 1, 2] (by decide) rfl) hS (lv_sub hl [0, 1, 2, 3, 4, 5] rfl)
      · refine lv_iload hx hb dX7_point_27 (lv_at hl 4 rfl) ?_
        refine s_i (va_runS (As := [.int z]) (rest := []) ⟨hx, hb, hml, hown, hts⟩ (x7_isCoordinate Z z) (va_cwS 1 hts (lw_S q2376 q2377 q107 q2378) rfl rfl rfl (by decide +kernel) ⟨Nat.le_of_ble_eq_true rfl, Nat.le_of_ble_eq_true rfl⟩) (gP_S hG hS (fun q _ h => h.elim) trivial) rfl rfl hl.1 rfl (lv_room (Nat.le_of_ble_eq_true rfl)) dX7_point_29 ⟨by first | decide | omega, by first | decide | omega⟩) ?_
        refine lv_if_eq (tgt := 50) hx hb dX7_point_32 (by decide) (fun c_32 => ?_) (fun c_32 => ?_)
        · refine lv_iconst (v := nI 0) hx hb dX7_point_50 (by decide) ?_
          refine e_i (y := bI (coB x && coB y && coB z && inB d (nI 1) (nI 100))) ((by rw [bI_0 c_32, Bool.and_false]; rfl)) ?_
          exact J_1  s.heap [] ls  (hP.sub [0, 1, 2] rfl) (hD.sub [0, 1, 2] (by decide) rfl) hS (lv_sub hl [0, 1, 2, 3, 4, 5] rfl)
        · refine lv_iload hx hb dX7_point_35 (lv_at hl 5 rfl) ?_
          refine lv_iconst (v := nI 1) hx hb dX7_point_37 (by decide) ?_
          refine lv_bipush (v := nI 100) hx hb dX7_point_38 (by decide) ?_
          refine s_i (va_runS (As := [.int d, .int (nI 1), .int (nI 100)]) (rest := []) ⟨hx, hb, hml, hown, hts⟩ (x7_in Z d (nI 1) (nI 100)) (va_cwS 3 hts (lw_S q2097 q2098 q107 q2099) rfl rfl rfl (by decide +kernel) ⟨Nat.le_of_ble_eq_true rfl, Nat.le_of_ble_eq_true rfl⟩) (gP_S hG hS (fun q _ h => h.elim) trivial) rfl rfl hl.1 rfl (lv_room (Nat.le_of_ble_eq_true rfl)) dX7_point_40 ⟨by first | decide | omega, by first | decide | omega⟩) ?_
          refine lv_if_eq (tgt := 50) hx hb dX7_point_43 (by decide) (fun c_43 => ?_) (fun c_43 => ?_)
          · refine lv_iconst (v := nI 0) hx hb dX7_point_50 (by decide) ?_
            refine e_i (y := bI (coB x && coB y && coB z && inB d (nI 1) (nI 100))) ((by rw [bI_0 c_43, Bool.and_false]; rfl)) ?_
            exact J_1  s.heap [] ls  (hP.sub [0, 1, 2] rfl) (hD.sub [0, 1, 2] (by decide) rfl) hS (lv_sub hl [0, 1, 2, 3, 4, 5] rfl)
          · refine lv_iconst (v := nI 1) hx hb dX7_point_46 (by decide) ?_
            refine lv_goto (tgt := 51) hx hb dX7_point_47 (by decide) ?_
            refine e_i (y := bI (coB x && coB y && coB z && inB d (nI 1) (nI 100))) ((by rw [bI_1 c_17, bI_1 c_24, bI_1 c_32, bI_1 c_43]; rfl)) ?_
            exact J_1  s.heap [] ls  (hP.sub [0, 1, 2] rfl) (hD.sub [0, 1, 2] (by decide) rfl) hS (lv_sub hl [0, 1, 2, 3, 4, 5] rfl)
  · have h_t := bI_0 c_4
    refine lv_aload_n hx hb dX7_point_7 rfl (lv_at hl 0 rfl) ?_
    refine lv_iconst (v := nI 1) hx hb dX7_point_8 (by decide) ?_
    have hF9 := va_free (wc := [(o 0, .inr (2, mFs o th p0 q0 r0 mu zz))]) hD hS (fun q h => hA q h) [0] rfl
    refine c_i (wr := [(o 5, .inl (dA 1, 2640, .inr (.inl fA))), (o 6, .inl (dA 1, 32, .inr (.inl fM)))]) (va_runV (As := [.int (nI 1)]) (rest := []) ⟨hx, hb, hml, hown, hts⟩ (x7_refuses Z (va_A [(o 0, .inr (2, mFs o th p0 q0 r0 mu zz))] s.heap.size) s.heap.size (fun q h => Or.inr h) o th p0 q0 r0 mu zz (nI 1)) (cwV 1 hts (lw_V q2100 q2102 qs34 q107 q2103) rfl rfl rfl (by decide +kernel) ⟨Nat.le_of_ble_eq_true rfl, Nat.le_of_ble_eq_true rfl⟩) (gP_V (va_recv hK hP (ci := 2) (q0 := 0) rfl rfl) hG hS (fun q _ h => hF9 q h) ⟨rfl, (hP.sub (ws' := [(o 0, .inr (2, mFs o th p0 q0 r0 mu zz))]) [0] rfl), (hD.sub (ws' := [(o 0, .inr (2, mFs o th p0 q0 r0 mu zz))]) [0] (by decide) rfl).self⟩) rfl rfl hl.1 rfl (lv_room (Nat.le_of_ble_eq_true rfl)) dX7_point_9 ⟨by first | decide | omega, by first | decide | omega⟩) hP hD hS hA [0] [1, 2] rfl rfl (by decide) (by decide) (fun r9 u9 H locs hq hX hz hk hP hD hS => ?_)
    obtain ⟨r_22, rfl⟩ : ∃ z, z = r9 := ⟨_, rfl⟩
    obtain rfl := hq
    have hP : va_P (dC, dI) vwCl [(o 5, .inl (dA 1, 2640, .inr (.inl fA))), (o 6, .inl (dA 1, 32, .inr (.inl fM))), (o 0, .inr (2, mFs o (nI 1) p0 q0 r0 mu zz))] H := hP
    have hD : va_D A [(o 5, .inl (dA 1, 2640, .inr (.inl fA))), (o 6, .inl (dA 1, 32, .inr (.inl fM))), (o 0, .inr (2, mFs o (nI 1) p0 q0 r0 mu zz))] := hD
    subst hQe
    exact W.iret (v := nI 0) hx hb hr (fun tz ht hW => ⟨⟨_, (fA, fM, mu, nI 1), rfl, ModPost.mk0 (c := nI 1) (by simp [ptX, rgB, optC, h_t]) (fun k9 hk9 i9 hi9 => rfl), B1_at ht (hP.sub [2, 0, 1] rfl) (hD.sub [2, 0, 1] (by decide) rfl) trivial⟩, hS.F ht⟩) hS.2.2 dX7_point_12
