theorem gcdL_nz {M : MV} (h : MSm M) (v : Int64) : ¬ gcdL (M 0) v = 0 := by
  have h0 := aN_pos h.1
  have h1 := Nat.gcd_pos_of_pos_left (aN v) h0
  have h2 := Nat.gcd_le_left (aN v) h0
  exact lN_nz h1 (Nat.lt_of_le_of_lt h2 (aN_lt (ne_min_of h.u (by decide))))
theorem sca_and {a : Nat} (h : a < 64) : nI a &&& (-2) = nI (a &&& 62) := by
  have : ∀ a, a < 64 → nI a &&& (-2) = nI (a &&& 62) := by decide +kernel
  exact this a h
theorem inB_pos {x : Int32} (h : inB x (nI 1) (nI 10000) = true) : 0 < x.toInt64.toInt ∧ x.toInt64.toInt ≤ 100000000 := by
  unfold inB at h
  rw [Bool.and_eq_true, decide_eq_true_iff, decide_eq_true_iff, Int32.le_iff_toInt_le, Int32.le_iff_toInt_le, nI_toInt (by decide), nI_toInt (by decide)] at h
  rw [i2l_toInt]; omega
set_option maxHeartbeats 4000000 in
theorem x7_isCoefficient {l : Launch} {dC : Nat → ClassId} {dI : Nat → Nat → Nat} {dA : Nat → ClassId} {s0 : State} {b0 : Addr} (Z : Z0 l dC dI dA s0 b0) (A : Nat → Prop) (sz : Nat) (hA : ∀ q : Nat, sz ≤ q → A q) (o : Nat → Nat) (th : Int32) (p0 q0 r0 : Nat) (mu : Int64) (zz : Nat → Int32) (fA fM : Nat → Int64) (Ms : Nat → MV) (a : Int32) (b : Int32) (hn : p0 + q0 + r0 ≤ 5) (hR : ∀ k, k < 8 → Hold fA k (Ms k)) (sR : ∀ k, k < 8 → MSm (Ms k)) : Met l yX7_isCoefficient (ws_ yX7_isCoefficient cX7_isCoefficient 3 (some .boolean)) ({ frames := 4, cells := 0, slots := 0, locals := 240 } : Room) (gP [.ref (o 0), .int a, .int b] s0 A (fun H => H.size = sz ∧ va_P (dC, dI) vwCl [(o 0, .inr (2, mFs o th p0 q0 r0 mu zz)), (o 5, .inl (dA 1, 2640, .inr (.inl fA)))] H ∧ va_D A [(o 0, .inr (2, mFs o th p0 q0 r0 mu zz)), (o 5, .inl (dA 1, 2640, .inr (.inl fA)))])) (va_Qi (S := Int32) (fun r u => (u, r) = (if (rgB a && blB p0 q0 r0 b) = true then ((nI 0, nI 1) : IX) else (nI 1, nI 0))) (B1 (dC, dI) A (fun u => [(o 0, .inr (2, mFs o u p0 q0 r0 mu zz)), (o 5, .inl (dA 1, 2640, .inr (.inl fA)))]) (fun _ _ => True)) A) 0 0 A := by
  refine Met.ofW (cc := cX7_isCoefficient) (maxL := 3) (ret := (some .boolean)) (by decide) rfl ?_
  intro p e s m args below meth c s₁ B hml hv
  obtain ⟨hav, hG, hsz, hP, hD⟩ := hv
  have hx := B.exec
  have hb := B.bytes
  have hr := B.returns
  have hts := atoms_spec (ws := (ws_ yX7_isCoefficient cX7_isCoefficient 3 (some .boolean))) B.pre
  have hts : ∀ w ∈ lw_all, w.before _ s = true := fun w h => hts w (List.mem_cons_of_mem _ h)
  have hown : s.vm.findClass RX7 = some m.cls := findClass_of_methodNamed B.named
  have hlocks := B.notSynchronized
  have hK := hG.K Z
  subst hsz
  have hS : va_S A s.heap s.heap [] := va_S.rf
  have hl := lv_entry ([.ref (o 0), .int a, .int b]) (n := 3) (Nat.le_of_ble_eq_true rfl)
  rw [show entryFrame m args 3 = entryFrame m ([.ref (o 0), .int a, .int b] : List Value).toArray 3 from by rw [hav], lg_entry_eq]
  generalize (lg_sl ([.ref (o 0), .int a, .int b]) ++ List.replicate (3 - (lg_sl ([.ref (o 0), .int a, .int b])).length) Slot.unset).toArray = ls at hl ⊢
  have hl : lv_has ls 3 [(0, .ref (o 0)), (1, .int a), (2, .int b)] := hl
  generalize hQe : MQ below _ _ s _ _ _ = Q
  change W p l e ({ frames := 4, cells := 0, slots := 0, locals := 240 } : Room) s m args below meth c s.heap [] 0 0 Q (F0 m 0 ls [])
  refine lv_aload_n hx hb dX7_isCoefficient_0 rfl (lv_at hl 0 rfl) ?_
  refine lv_iload_n hx hb dX7_isCoefficient_1 rfl (lv_at hl 1 rfl) ?_
  refine s_i (va_runS (As := [.int a]) (rest := [.ref (o 0)]) ⟨hx, hb, hml, hown, hts⟩ (x7_isRegister Z a) (va_cwS 1 hts (lw_S q2104 q2105 q107 q2106) rfl rfl rfl (by decide +kernel) ⟨Nat.le_of_ble_eq_true rfl, Nat.le_of_ble_eq_true rfl⟩) (gP_S hG hS (fun q _ h => h.elim) trivial) rfl rfl hl.1 rfl (lv_room (Nat.le_of_ble_eq_true rfl)) dX7_isCoefficient_2 ⟨by first | decide | omega, by first | decide | omega⟩) ?_
  refine lv_if_eq (tgt := 20) hx hb dX7_isCoefficient_5 (by decide) (fun c_5 => ?_) (fun c_5 => ?_)
  · have h_a := bI_0 c_5
    refine lv_iconst (v := nI 1) hx hb dX7_isCoefficient_20 (by decide) ?_
    refine va_put (D := (dC, dI)) (ci := 2) (v := .int (nI 1)) (ty := .int) (C := RX7) (T := TX7) (N := 27) hx hb hts in_X7 tyX7 tyX7_ok nmX7 hown hK hP hD hS 0 rfl rfl 0 (by decide) (hts _ q2006) (fun _ h9 => h9) rfl (by decide +kernel) rfl rfl (Nat.le_of_ble_eq_true rfl) dX7_isCoefficient_21 (fun H locs hP hD hS => ?_)
    have hP : va_P (dC, dI) vwCl [(o 0, .inr (2, mFs o (nI 1) p0 q0 r0 mu zz)), (o 5, .inl (dA 1, 2640, .inr (.inl fA)))] H := hP
    have hD : va_D A [(o 0, .inr (2, mFs o (nI 1) p0 q0 r0 mu zz)), (o 5, .inl (dA 1, 2640, .inr (.inl fA)))] := hD
    refine lv_aload_n hx hb dX7_isCoefficient_24 rfl (lv_at hl 0 rfl) ?_
    refine va_get (D := (dC, dI)) (ci := 2) (v := .int (nI 1)) (C := RX7) (T := TX7) (N := 27) hx hb hts in_X7 hown hK hP 0 rfl rfl 0 (by decide) (hts _ q2006) (fun _ h9 => h9) rfl dX7_isCoefficient_25 ?_
    refine lv_if_ne (tgt := 35) hx hb dX7_isCoefficient_28 (by decide) (fun c_28 => ?_) (fun c_28 => ?_)
    rotate_left
    · exact absurd c_28 (by decide)
    refine lv_iconst (v := nI 0) hx hb dX7_isCoefficient_35 (by decide) ?_
    subst hQe
    exact W.zret (v := nI 0) hx hb hr rfl (fun t ht hW => ⟨⟨_, nI 1, rfl, (by simp [rgB, blB, optC, h_a]), B1_at ht (hP.sub [0, 1] rfl) (hD.sub [0, 1] (by decide) rfl) trivial⟩, hS.F ht⟩) hS.2.2 dX7_isCoefficient_36
  · have h_a := bI_1 c_5
    obtain ⟨ja, hj_a, rfl⟩ := inB_nat (by decide) h_a
    refine lv_aload_n hx hb dX7_isCoefficient_8 rfl (lv_at hl 0 rfl) ?_
    refine lv_iload_n hx hb dX7_isCoefficient_9 rfl (lv_at hl 2 rfl) ?_
    refine s_i (va_runV (As := [.int b]) (rest := [.ref (o 0)]) ⟨hx, hb, hml, hown, hts⟩ (x7_isBlade0 Z o th p0 q0 r0 mu zz b (by omega)) (cwV 1 hts (lw_V q2233 q2235 qs55 q107 q2236) rfl rfl rfl (by decide +kernel) ⟨Nat.le_of_ble_eq_true rfl, Nat.le_of_ble_eq_true rfl⟩) (gP_V (va_recv hK hP (ci := 2) (q0 := 0) rfl rfl) hG hS (fun q _ h => h.elim) (hP.sub (ws' := [(o 0, .inr (2, mFs o th p0 q0 r0 mu zz))]) [0] rfl)) rfl rfl hl.1 rfl (lv_room (Nat.le_of_ble_eq_true rfl)) dX7_isCoefficient_10 ⟨by first | decide | omega, by first | decide | omega⟩) ?_
    refine lv_if_eq (tgt := 20) hx hb dX7_isCoefficient_13 (by decide) (fun c_13 => ?_) (fun c_13 => ?_)
    · have h_b := bI_0 c_13
      refine lv_iconst (v := nI 1) hx hb dX7_isCoefficient_20 (by decide) ?_
      refine va_put (D := (dC, dI)) (ci := 2) (v := .int (nI 1)) (ty := .int) (C := RX7) (T := TX7) (N := 27) hx hb hts in_X7 tyX7 tyX7_ok nmX7 hown hK hP hD hS 0 rfl rfl 0 (by decide) (hts _ q2006) (fun _ h9 => h9) rfl (by decide +kernel) rfl rfl (Nat.le_of_ble_eq_true rfl) dX7_isCoefficient_21 (fun H locs hP hD hS => ?_)
      have hP : va_P (dC, dI) vwCl [(o 0, .inr (2, mFs o (nI 1) p0 q0 r0 mu zz)), (o 5, .inl (dA 1, 2640, .inr (.inl fA)))] H := hP
      have hD : va_D A [(o 0, .inr (2, mFs o (nI 1) p0 q0 r0 mu zz)), (o 5, .inl (dA 1, 2640, .inr (.inl fA)))] := hD
      refine lv_aload_n hx hb dX7_isCoefficient_24 rfl (lv_at hl 0 rfl) ?_
      refine va_get (D := (dC, dI)) (ci := 2) (v := .int (nI 1)) (C := RX7) (T := TX7) (N := 27) hx hb hts in_X7 hown hK hP 0 rfl rfl 0 (by decide) (hts _ q2006) (fun _ h9 => h9) rfl dX7_isCoefficient_25 ?_
      refine lv_if_ne (tgt := 35) hx hb dX7_isCoefficient_28 (by decide) (fun c_28 => ?_) (fun c_28 => ?_)
      rotate_left
      · exact absurd c_28 (by decide)
      refine lv_iconst (v := nI 0) hx hb dX7_isCoefficient_35 (by decide) ?_
      subst hQe
      exact W.zret (v := nI 0) hx hb hr rfl (fun t ht hW => ⟨⟨_, nI 1, rfl, (by simp [rgB, blB, optC, h_a, h_b, rg_n (show ja < 8 by omega), nI_clamp (show ja < 2 ^ 31 by omega)]), B1_at ht (hP.sub [0, 1] rfl) (hD.sub [0, 1] (by decide) rfl) trivial⟩, hS.F ht⟩) hS.2.2 dX7_isCoefficient_36
    · have h_b := bI_1 c_13
      obtain ⟨jb, hj_b, rfl⟩ := inB_nat (by have := pow5 hn; omega) h_b
      have hj2_b : jb < 32 := by have := pow5 hn; omega
      refine lv_iconst (v := nI 0) hx hb dX7_isCoefficient_16 (by decide) ?_
      refine lv_goto (tgt := 21) hx hb dX7_isCoefficient_17 (by decide) ?_
      refine va_put (D := (dC, dI)) (ci := 2) (v := .int (nI 0)) (ty := .int) (C := RX7) (T := TX7) (N := 27) hx hb hts in_X7 tyX7 tyX7_ok nmX7 hown hK hP hD hS 0 rfl rfl 0 (by decide) (hts _ q2006) (fun _ h9 => h9) rfl (by decide +kernel) rfl rfl (Nat.le_of_ble_eq_true rfl) dX7_isCoefficient_21 (fun H locs hP hD hS => ?_)
      have hP : va_P (dC, dI) vwCl [(o 0, .inr (2, mFs o (nI 0) p0 q0 r0 mu zz)), (o 5, .inl (dA 1, 2640, .inr (.inl fA)))] H := hP
      have hD : va_D A [(o 0, .inr (2, mFs o (nI 0) p0 q0 r0 mu zz)), (o 5, .inl (dA 1, 2640, .inr (.inl fA)))] := hD
      refine lv_aload_n hx hb dX7_isCoefficient_24 rfl (lv_at hl 0 rfl) ?_
      refine va_get (D := (dC, dI)) (ci := 2) (v := .int (nI 0)) (C := RX7) (T := TX7) (N := 27) hx hb hts in_X7 hown hK hP 0 rfl rfl 0 (by decide) (hts _ q2006) (fun _ h9 => h9) rfl dX7_isCoefficient_25 ?_
      refine lv_if_ne (tgt := 35) hx hb dX7_isCoefficient_28 (by decide) (fun c_28 => ?_) (fun c_28 => ?_)
      · exact absurd (by decide) c_28
      refine lv_iconst (v := nI 1) hx hb dX7_isCoefficient_31 (by decide) ?_
      refine lv_goto (tgt := 36) hx hb dX7_isCoefficient_32 (by decide) ?_
      subst hQe
      exact W.zret (v := nI 1) hx hb hr rfl (fun t ht hW => ⟨⟨_, nI 0, rfl, (by simp [rgB, blB, optC, h_a, h_b, rg_n (show ja < 8 by omega), nI_clamp (show ja < 2 ^ 31 by omega), nI_clamp (show jb < 2 ^ 31 by omega)]), B1_at ht (hP.sub [0, 1] rfl) (hD.sub [0, 1] (by decide) rfl) trivial⟩, hS.F ht⟩) hS.2.2 dX7_isCoefficient_36
set_option maxHeartbeats 4000000 in
theorem x7_shared {l : Launch} {dC : Nat → ClassId} {dI : Nat → Nat → Nat} {dA : Nat → ClassId} {s0 : State} {b0 : Addr} (Z : Z0 l dC dI dA s0 b0) (o : Nat → Nat) (th : Int32) (p0 q0 r0 : Nat) (mu : Int64) (zz : Nat → Int32) (fA : Nat → Int64) (k1 b : Nat) (M : MV) (hk1 : k1 < 80) (hb32 : b < 32) (hM : Hold fA k1 M) (sM : MSm M) : Met l yX7_shared (ws_ yX7_shared cX7_shared 3 (some .long)) ({ frames := 2, cells := 0, slots := 0, locals := 120 } : Room) (gP [.ref (o 0), .int (nI k1), .int (nI b)] s0 (fun _ => False) (fun H => va_P (dC, dI) vwCl [(o 0, .inr (2, mFs o th p0 q0 r0 mu zz)), (o 5, .inl (dA 1, 2640, .inr (.inl fA)))] H)) (vp_Sl (fun r => r = gcdL (M 0) (M (b + 1)))) 0 0 (fun _ => False) := by
  refine Met.ofW (cc := cX7_shared) (maxL := 3) (ret := (some .long)) (by decide) rfl ?_
  intro p e s m args below meth c s₁ B hml hv
  obtain ⟨hav, hG, hP⟩ := hv
  have hx := B.exec
  have hb := B.bytes
  have hr := B.returns
  have hts := atoms_spec (ws := (ws_ yX7_shared cX7_shared 3 (some .long))) B.pre
  have hts : ∀ w ∈ lw_all, w.before _ s = true := fun w h => hts w (List.mem_cons_of_mem _ h)
  have hown : s.vm.findClass RX7 = some m.cls := findClass_of_methodNamed B.named
  have hlocks := B.notSynchronized
  have hK := hG.K Z
  have hS : va_S (fun _ => False) s.heap s.heap [] := va_S.rf
  have hl := lv_entry ([.ref (o 0), .int (nI k1), .int (nI b)]) (n := 3) (Nat.le_of_ble_eq_true rfl)
  rw [show entryFrame m args 3 = entryFrame m ([.ref (o 0), .int (nI k1), .int (nI b)] : List Value).toArray 3 from by rw [hav], lg_entry_eq]
  generalize (lg_sl ([.ref (o 0), .int (nI k1), .int (nI b)]) ++ List.replicate (3 - (lg_sl ([.ref (o 0), .int (nI k1), .int (nI b)])).length) Slot.unset).toArray = ls at hl ⊢
  have hl : lv_has ls 3 [(0, .ref (o 0)), (1, .int (nI k1)), (2, .int (nI b))] := hl
  generalize hQe : MQ below _ _ s _ _ _ = Q
  change W p l e ({ frames := 2, cells := 0, slots := 0, locals := 120 } : Room) s m args below meth c s.heap [] 0 0 Q (F0 m 0 ls [])
  refine lv_aload_n hx hb dX7_shared_0 rfl (lv_at hl 0 rfl) ?_
  refine lv_iload_n hx hb dX7_shared_1 rfl (lv_at hl 1 rfl) ?_
  refine s_l (va_runV (As := [.int (nI k1)]) (rest := []) ⟨hx, hb, hml, hown, hts⟩ (x7_under Z o th p0 q0 r0 mu zz fA k1 (by omega)) (cwV 1 hts (lw_V q2123 q2125 qs39 q107 q2126) rfl rfl rfl (by decide +kernel) ⟨Nat.le_of_ble_eq_true rfl, Nat.le_of_ble_eq_true rfl⟩) (gP_V (va_recv hK hP (ci := 2) (q0 := 0) rfl rfl) hG hS (fun q _ h => h.elim) (hP.sub (ws' := [(o 0, .inr (2, mFs o th p0 q0 r0 mu zz)), (o 5, .inl (dA 1, 2640, .inr (.inl fA)))]) [0, 1] rfl)) rfl rfl hl.1 rfl (lv_room (Nat.le_of_ble_eq_true rfl)) dX7_shared_2 ⟨by first | decide | omega, by first | decide | omega⟩) ?_
  refine e_l (y := M 0) (hold_at hM (i := 0) (by omega) (by omega)) ?_
  refine lv_aload_n hx hb dX7_shared_5 rfl (lv_at hl 0 rfl) ?_
  refine lv_iload_n hx hb dX7_shared_6 rfl (lv_at hl 1 rfl) ?_
  refine lv_iload_n hx hb dX7_shared_7 rfl (lv_at hl 2 rfl) ?_
  refine s_l (va_runV (As := [.int (nI k1), .int (nI b)]) (rest := [.long (M 0)]) ⟨hx, hb, hml, hown, hts⟩ (x7_of Z o th p0 q0 r0 mu zz fA k1 b (by omega)) (cwV 2 hts (lw_V q2119 q2121 qs38 q107 q2122) rfl rfl rfl (by decide +kernel) ⟨Nat.le_of_ble_eq_true rfl, Nat.le_of_ble_eq_true rfl⟩) (gP_V (va_recv hK hP (ci := 2) (q0 := 0) rfl rfl) hG hS (fun q _ h => h.elim) (hP.sub (ws' := [(o 0, .inr (2, mFs o th p0 q0 r0 mu zz)), (o 5, .inl (dA 1, 2640, .inr (.inl fA)))]) [0, 1] rfl)) rfl rfl hl.1 rfl (lv_room (Nat.le_of_ble_eq_true rfl)) dX7_shared_8 ⟨by first | decide | omega, by first | decide | omega⟩) ?_
  refine e_l (y := M (b + 1)) (hold_at hM (i := b + 1) (by omega) (by omega)) ?_
  refine s_l (va_runS (As := [.long (M 0), .long (M (b + 1))]) (rest := []) ⟨hx, hb, hml, hown, hts⟩ (x7_common Z (M 0) (M (b + 1)) (ne_min_of sM.u (by decide)) (ne_min_of (sM.c hb32) (by decide))) (va_cwS 2 hts (lw_S q2131 q2132 q107 q2133) rfl rfl rfl (by decide +kernel) ⟨Nat.le_of_ble_eq_true rfl, Nat.le_of_ble_eq_true rfl⟩) (gP_S hG hS (fun q _ h => h.elim) trivial) rfl rfl hl.1 rfl (lv_room (Nat.le_of_ble_eq_true rfl)) dX7_shared_11 ⟨by first | decide | omega, by first | decide | omega⟩) ?_
  subst hQe
  exact W.lret (v := gcdL (M 0) (M (b + 1))) hx hb hr (fun t ht hW => ⟨_, rfl, rfl, ht⟩) hS.2.2 dX7_shared_14
set_option maxHeartbeats 4000000 in
theorem x7_numerator {l : Launch} {dC : Nat → ClassId} {dI : Nat → Nat → Nat} {dA : Nat → ClassId} {s0 : State} {b0 : Addr} (Z : Z0 l dC dI dA s0 b0) (A : Nat → Prop) (sz : Nat) (hA : ∀ q : Nat, sz ≤ q → A q) (o : Nat → Nat) (th : Int32) (p0 q0 r0 : Nat) (mu : Int64) (zz : Nat → Int32) (fA fM : Nat → Int64) (Ms : Nat → MV) (a : Int32) (b : Int32) (hn : p0 + q0 + r0 ≤ 5) (hR : ∀ k, k < 8 → Hold fA k (Ms k)) (sR : ∀ k, k < 8 → MSm (Ms k)) : Met l yX7_numerator (ws_ yX7_numerator cX7_numerator 3 (some .int)) ({ frames := 5, cells := 0, slots := 0, locals := 300 } : Room) (gP [.ref (o 0), .int a, .int b] s0 A (fun H => H.size = sz ∧ va_P (dC, dI) vwCl [(o 0, .inr (2, mFs o th p0 q0 r0 mu zz)), (o 5, .inl (dA 1, 2640, .inr (.inl fA)))] H ∧ va_D A [(o 0, .inr (2, mFs o th p0 q0 r0 mu zz)), (o 5, .inl (dA 1, 2640, .inr (.inl fA)))])) (va_Qi (S := Int32) (fun r u => (u, r) = numX p0 q0 r0 Ms a b) (B1 (dC, dI) A (fun u => [(o 0, .inr (2, mFs o u p0 q0 r0 mu zz)), (o 5, .inl (dA 1, 2640, .inr (.inl fA)))]) (fun _ _ => True)) A) 0 0 A := by
  refine Met.ofW (cc := cX7_numerator) (maxL := 3) (ret := (some .int)) (by decide) rfl ?_
  intro p e s m args below meth c s₁ B hml hv
  obtain ⟨hav, hG, hsz, hP, hD⟩ := hv
  have hx := B.exec
  have hb := B.bytes
  have hr := B.returns
  have hts := atoms_spec (ws := (ws_ yX7_numerator cX7_numerator 3 (some .int))) B.pre
  have hts : ∀ w ∈ lw_all, w.before _ s = true := fun w h => hts w (List.mem_cons_of_mem _ h)
  have hown : s.vm.findClass RX7 = some m.cls := findClass_of_methodNamed B.named
  have hlocks := B.notSynchronized
  have hK := hG.K Z
  subst hsz
  have hS : va_S A s.heap s.heap [] := va_S.rf
  have hl := lv_entry ([.ref (o 0), .int a, .int b]) (n := 3) (Nat.le_of_ble_eq_true rfl)
  rw [show entryFrame m args 3 = entryFrame m ([.ref (o 0), .int a, .int b] : List Value).toArray 3 from by rw [hav], lg_entry_eq]
  generalize (lg_sl ([.ref (o 0), .int a, .int b]) ++ List.replicate (3 - (lg_sl ([.ref (o 0), .int a, .int b])).length) Slot.unset).toArray = ls at hl ⊢
  have hl : lv_has ls 3 [(0, .ref (o 0)), (1, .int a), (2, .int b)] := hl
  generalize hQe : MQ below _ _ s _ _ _ = Q
  change W p l e ({ frames := 5, cells := 0, slots := 0, locals := 300 } : Room) s m args below meth c s.heap [] 0 0 Q (F0 m 0 ls [])
  refine lv_aload_n hx hb dX7_numerator_0 rfl (lv_at hl 0 rfl) ?_
  refine lv_iload_n hx hb dX7_numerator_1 rfl (lv_at hl 1 rfl) ?_
  refine lv_iload_n hx hb dX7_numerator_2 rfl (lv_at hl 2 rfl) ?_
  have hF9 := va_free (wc := [(o 0, .inr (2, mFs o th p0 q0 r0 mu zz)), (o 5, .inl (dA 1, 2640, .inr (.inl fA)))]) hD hS (fun q h => hA q h) [0, 1] rfl
  refine c_i (wr := []) (va_runV (As := [.int a, .int b]) (rest := []) ⟨hx, hb, hml, hown, hts⟩ (x7_isCoefficient Z (va_A [(o 0, .inr (2, mFs o th p0 q0 r0 mu zz)), (o 5, .inl (dA 1, 2640, .inr (.inl fA)))] s.heap.size) s.heap.size (fun q h => Or.inr h) o th p0 q0 r0 mu zz fA (fun _ => 0) Ms a b hn hR sR) (cwV 2 hts (lw_V q2241 q2243 qs56 q107 q2244) rfl rfl rfl (by decide +kernel) ⟨Nat.le_of_ble_eq_true rfl, Nat.le_of_ble_eq_true rfl⟩) (gP_V (va_recv hK hP (ci := 2) (q0 := 0) rfl rfl) hG hS (fun q _ h => hF9 q h) ⟨rfl, (hP.sub (ws' := [(o 0, .inr (2, mFs o th p0 q0 r0 mu zz)), (o 5, .inl (dA 1, 2640, .inr (.inl fA)))]) [0, 1] rfl), (hD.sub (ws' := [(o 0, .inr (2, mFs o th p0 q0 r0 mu zz)), (o 5, .inl (dA 1, 2640, .inr (.inl fA)))]) [0, 1] (by decide) rfl).self⟩) rfl rfl hl.1 rfl (lv_room (Nat.le_of_ble_eq_true rfl)) dX7_numerator_3 ⟨by first | decide | omega, by first | decide | omega⟩) hP hD hS hA [0, 1] [] rfl rfl (by decide) (by decide) (fun r9 u9 H locs hq hX hz hk hP hD hS => ?_)
  obtain ⟨th_1, rfl⟩ : ∃ z, z = u9 := ⟨_, rfl⟩
  obtain ⟨r_2, rfl⟩ : ∃ z, z = r9 := ⟨_, rfl⟩
  have hP : va_P (dC, dI) vwCl [(o 0, .inr (2, mFs o th_1 p0 q0 r0 mu zz)), (o 5, .inl (dA 1, 2640, .inr (.inl fA)))] H := hP
  have hD : va_D A [(o 0, .inr (2, mFs o th_1 p0 q0 r0 mu zz)), (o 5, .inl (dA 1, 2640, .inr (.inl fA)))] := hD
  by_cases h_ab : (rgB a && blB p0 q0 r0 b) = true
  · rw [if_pos h_ab] at hq; obtain ⟨rfl, rfl⟩ := Prod.mk.inj hq
    have hP : va_P (dC, dI) vwCl [(o 0, .inr (2, mFs o (nI 0) p0 q0 r0 mu zz)), (o 5, .inl (dA 1, 2640, .inr (.inl fA)))] H := hP
    have hD : va_D A [(o 0, .inr (2, mFs o (nI 0) p0 q0 r0 mu zz)), (o 5, .inl (dA 1, 2640, .inr (.inl fA)))] := hD
    rw [Bool.and_eq_true] at h_ab; obtain ⟨h_a, h_b⟩ := h_ab
    obtain ⟨ja, hj_a, rfl⟩ := inB_nat (by decide) h_a
    obtain ⟨jb, hj_b, rfl⟩ := inB_nat (by have := pow5 hn; omega) h_b
    have hj2_b : jb < 32 := by have := pow5 hn; omega
    unfold rgB at h_a; unfold blB at h_b
    refine lv_if_eq (tgt := 26) hx hb dX7_numerator_6 (by decide) (fun c_6 => ?_) (fun c_6 => ?_)
    · exact absurd c_6 (by decide)
    refine lv_aload_n hx hb dX7_numerator_9 rfl (lv_at hl 0 rfl) ?_
    refine lv_iload_n hx hb dX7_numerator_10 rfl (lv_at hl 1 rfl) ?_
    refine lv_iload_n hx hb dX7_numerator_11 rfl (lv_at hl 2 rfl) ?_
    refine s_l (va_runV (As := [.int (nI ja), .int (nI jb)]) (rest := []) ⟨hx, hb, hml, hown, hts⟩ (x7_of Z o (nI 0) p0 q0 r0 mu zz fA ja jb (by omega)) (cwV 2 hts (lw_V q2119 q2121 qs38 q107 q2122) rfl rfl rfl (by decide +kernel) ⟨Nat.le_of_ble_eq_true rfl, Nat.le_of_ble_eq_true rfl⟩) (gP_V (va_recv hK hP (ci := 2) (q0 := 0) rfl rfl) hG hS (fun q _ h => h.elim) (hP.sub (ws' := [(o 0, .inr (2, mFs o (nI 0) p0 q0 r0 mu zz)), (o 5, .inl (dA 1, 2640, .inr (.inl fA)))]) [0, 1] rfl)) rfl rfl hl.1 rfl (lv_room (Nat.le_of_ble_eq_true rfl)) dX7_numerator_12 ⟨by first | decide | omega, by first | decide | omega⟩) ?_
    refine e_l (y := (Ms ja) (jb + 1)) (hold_at (hR ja (by omega)) (i := jb + 1) (by omega) (by omega)) ?_
    refine lv_aload_n hx hb dX7_numerator_15 rfl (lv_at hl 0 rfl) ?_
    refine lv_iload_n hx hb dX7_numerator_16 rfl (lv_at hl 1 rfl) ?_
    refine lv_iload_n hx hb dX7_numerator_17 rfl (lv_at hl 2 rfl) ?_
    refine s_l (va_runV (As := [.int (nI ja), .int (nI jb)]) (rest := [.long ((Ms ja) (jb + 1))]) ⟨hx, hb, hml, hown, hts⟩ (x7_shared Z o (nI 0) p0 q0 r0 mu zz fA ja jb (Ms ja) (by omega) (by omega) (hR ja (by omega)) (sR ja (by omega))) (cwV 2 hts (lw_V q2245 q2247 qs57 q107 q2248) rfl rfl rfl (by decide +kernel) ⟨Nat.le_of_ble_eq_true rfl, Nat.le_of_ble_eq_true rfl⟩) (gP_V (va_recv hK hP (ci := 2) (q0 := 0) rfl rfl) hG hS (fun q _ h => h.elim) (hP.sub (ws' := [(o 0, .inr (2, mFs o (nI 0) p0 q0 r0 mu zz)), (o 5, .inl (dA 1, 2640, .inr (.inl fA)))]) [0, 1] rfl)) rfl rfl hl.1 rfl (lv_room (Nat.le_of_ble_eq_true rfl)) dX7_numerator_18 ⟨by first | decide | omega, by first | decide | omega⟩) ?_
    refine lv_ldiv hx hb dX7_numerator_21 (gcdL_nz (sR ja (by omega)) _) ?_
    refine lv_l2i (v := (((Ms ja) (jb + 1)) / (gcdL ((Ms ja) 0) ((Ms ja) (jb + 1)))).toInt32) hx hb dX7_numerator_22 rfl ?_
    refine lv_goto (tgt := 27) hx hb dX7_numerator_23 (by decide) ?_
    subst hQe
    exact W.iret (v := (((Ms ja) (jb + 1)) / (gcdL ((Ms ja) 0) ((Ms ja) (jb + 1)))).toInt32) hx hb hr (fun t ht hW => ⟨⟨_, nI 0, rfl, (by simp [numX, rgB, blB, optC, h_a, h_b, rg_n (show ja < 8 by omega), nI_clamp (show ja < 2 ^ 31 by omega), nI_clamp (show jb < 2 ^ 31 by omega)]), B1_at ht (hP.sub [0, 1] rfl) (hD.sub [0, 1] (by decide) rfl) trivial⟩, hS.F ht⟩) hS.2.2 dX7_numerator_27
  · rw [if_neg h_ab] at hq; obtain ⟨rfl, rfl⟩ := Prod.mk.inj hq
    have hP : va_P (dC, dI) vwCl [(o 0, .inr (2, mFs o (nI 1) p0 q0 r0 mu zz)), (o 5, .inl (dA 1, 2640, .inr (.inl fA)))] H := hP
    have hD : va_D A [(o 0, .inr (2, mFs o (nI 1) p0 q0 r0 mu zz)), (o 5, .inl (dA 1, 2640, .inr (.inl fA)))] := hD
    rw [Bool.not_eq_true] at h_ab; unfold rgB blB at h_ab
    refine lv_if_eq (tgt := 26) hx hb dX7_numerator_6 (by decide) (fun c_6 => ?_) (fun c_6 => ?_)
    rotate_left
    · exact absurd (by decide) c_6
    refine lv_iconst (v := nI 0) hx hb dX7_numerator_26 (by decide) ?_
    subst hQe
    exact W.iret (v := nI 0) hx hb hr (fun t ht hW => ⟨⟨_, nI 1, rfl, (by simp [numX, rgB, blB, optC, h_ab]), B1_at ht (hP.sub [0, 1] rfl) (hD.sub [0, 1] (by decide) rfl) trivial⟩, hS.F ht⟩) hS.2.2 dX7_numerator_27
set_option maxHeartbeats 4000000 in
theorem x7_denominator {l : Launch} {dC : Nat → ClassId} {dI : Nat → Nat → Nat} {dA : Nat → ClassId} {s0 : State} {b0 : Addr} (Z : Z0 l dC dI dA s0 b0) (A : Nat → Prop) (sz : Nat) (hA : ∀ q : Nat, sz ≤ q → A q) (o : Nat → Nat) (th : Int32) (p0 q0 r0 : Nat) (mu : Int64) (zz : Nat → Int32) (fA fM : Nat → Int64) (Ms : Nat → MV) (a : Int32) (b : Int32) (hn : p0 + q0 + r0 ≤ 5) (hR : ∀ k, k < 8 → Hold fA k (Ms k)) (sR : ∀ k, k < 8 → MSm (Ms k)) : Met l yX7_denominator (ws_ yX7_denominator cX7_denominator 3 (some .int)) ({ frames := 5, cells := 0, slots := 0, locals := 300 } : Room) (gP [.ref (o 0), .int a, .int b] s0 A (fun H => H.size = sz ∧ va_P (dC, dI) vwCl [(o 0, .inr (2, mFs o th p0 q0 r0 mu zz)), (o 5, .inl (dA 1, 2640, .inr (.inl fA)))] H ∧ va_D A [(o 0, .inr (2, mFs o th p0 q0 r0 mu zz)), (o 5, .inl (dA 1, 2640, .inr (.inl fA)))])) (va_Qi (S := Int32) (fun r u => (u, r) = denX p0 q0 r0 Ms a b) (B1 (dC, dI) A (fun u => [(o 0, .inr (2, mFs o u p0 q0 r0 mu zz)), (o 5, .inl (dA 1, 2640, .inr (.inl fA)))]) (fun _ _ => True)) A) 0 0 A := by
  refine Met.ofW (cc := cX7_denominator) (maxL := 3) (ret := (some .int)) (by decide) rfl ?_
  intro p e s m args below meth c s₁ B hml hv
  obtain ⟨hav, hG, hsz, hP, hD⟩ := hv
  have hx := B.exec
  have hb := B.bytes
  have hr := B.returns
  have hts := atoms_spec (ws := (ws_ yX7_denominator cX7_denominator 3 (some .int))) B.pre
  have hts : ∀ w ∈ lw_all, w.before _ s = true := fun w h => hts w (List.mem_cons_of_mem _ h)
  have hown : s.vm.findClass RX7 = some m.cls := findClass_of_methodNamed B.named
  have hlocks := B.notSynchronized
  have hK := hG.K Z
  subst hsz
  have hS : va_S A s.heap s.heap [] := va_S.rf
  have hl := lv_entry ([.ref (o 0), .int a, .int b]) (n := 3) (Nat.le_of_ble_eq_true rfl)
  rw [show entryFrame m args 3 = entryFrame m ([.ref (o 0), .int a, .int b] : List Value).toArray 3 from by rw [hav], lg_entry_eq]
  generalize (lg_sl ([.ref (o 0), .int a, .int b]) ++ List.replicate (3 - (lg_sl ([.ref (o 0), .int a, .int b])).length) Slot.unset).toArray = ls at hl ⊢
  have hl : lv_has ls 3 [(0, .ref (o 0)), (1, .int a), (2, .int b)] := hl
  generalize hQe : MQ below _ _ s _ _ _ = Q
  change W p l e ({ frames := 5, cells := 0, slots := 0, locals := 300 } : Room) s m args below meth c s.heap [] 0 0 Q (F0 m 0 ls [])
  refine lv_aload_n hx hb dX7_denominator_0 rfl (lv_at hl 0 rfl) ?_
  refine lv_iload_n hx hb dX7_denominator_1 rfl (lv_at hl 1 rfl) ?_
  refine lv_iload_n hx hb dX7_denominator_2 rfl (lv_at hl 2 rfl) ?_
  have hF9 := va_free (wc := [(o 0, .inr (2, mFs o th p0 q0 r0 mu zz)), (o 5, .inl (dA 1, 2640, .inr (.inl fA)))]) hD hS (fun q h => hA q h) [0, 1] rfl
  refine c_i (wr := []) (va_runV (As := [.int a, .int b]) (rest := []) ⟨hx, hb, hml, hown, hts⟩ (x7_isCoefficient Z (va_A [(o 0, .inr (2, mFs o th p0 q0 r0 mu zz)), (o 5, .inl (dA 1, 2640, .inr (.inl fA)))] s.heap.size) s.heap.size (fun q h => Or.inr h) o th p0 q0 r0 mu zz fA (fun _ => 0) Ms a b hn hR sR) (cwV 2 hts (lw_V q2241 q2243 qs56 q107 q2244) rfl rfl rfl (by decide +kernel) ⟨Nat.le_of_ble_eq_true rfl, Nat.le_of_ble_eq_true rfl⟩) (gP_V (va_recv hK hP (ci := 2) (q0 := 0) rfl rfl) hG hS (fun q _ h => hF9 q h) ⟨rfl, (hP.sub (ws' := [(o 0, .inr (2, mFs o th p0 q0 r0 mu zz)), (o 5, .inl (dA 1, 2640, .inr (.inl fA)))]) [0, 1] rfl), (hD.sub (ws' := [(o 0, .inr (2, mFs o th p0 q0 r0 mu zz)), (o 5, .inl (dA 1, 2640, .inr (.inl fA)))]) [0, 1] (by decide) rfl).self⟩) rfl rfl hl.1 rfl (lv_room (Nat.le_of_ble_eq_true rfl)) dX7_denominator_3 ⟨by first | decide | omega, by first | decide | omega⟩) hP hD hS hA [0, 1] [] rfl rfl (by decide) (by decide) (fun r9 u9 H locs hq hX hz hk hP hD hS => ?_)
  obtain ⟨th_1, rfl⟩ : ∃ z, z = u9 := ⟨_, rfl⟩
  obtain ⟨r_2, rfl⟩ : ∃ z, z = r9 := ⟨_, rfl⟩
  have hP : va_P (dC, dI) vwCl [(o 0, .inr (2, mFs o th_1 p0 q0 r0 mu zz)), (o 5, .inl (dA 1, 2640, .inr (.inl fA)))] H := hP
  have hD : va_D A [(o 0, .inr (2, mFs o th_1 p0 q0 r0 mu zz)), (o 5, .inl (dA 1, 2640, .inr (.inl fA)))] := hD
  by_cases h_ab : (rgB a && blB p0 q0 r0 b) = true
  · rw [if_pos h_ab] at hq; obtain ⟨rfl, rfl⟩ := Prod.mk.inj hq
    have hP : va_P (dC, dI) vwCl [(o 0, .inr (2, mFs o (nI 0) p0 q0 r0 mu zz)), (o 5, .inl (dA 1, 2640, .inr (.inl fA)))] H := hP
    have hD : va_D A [(o 0, .inr (2, mFs o (nI 0) p0 q0 r0 mu zz)), (o 5, .inl (dA 1, 2640, .inr (.inl fA)))] := hD
    rw [Bool.and_eq_true] at h_ab; obtain ⟨h_a, h_b⟩ := h_ab
    obtain ⟨ja, hj_a, rfl⟩ := inB_nat (by decide) h_a
    obtain ⟨jb, hj_b, rfl⟩ := inB_nat (by have := pow5 hn; omega) h_b
    have hj2_b : jb < 32 := by have := pow5 hn; omega
    unfold rgB at h_a; unfold blB at h_b
    refine lv_if_eq (tgt := 25) hx hb dX7_denominator_6 (by decide) (fun c_6 => ?_) (fun c_6 => ?_)
    · exact absurd c_6 (by decide)
    refine lv_aload_n hx hb dX7_denominator_9 rfl (lv_at hl 0 rfl) ?_
    refine lv_iload_n hx hb dX7_denominator_10 rfl (lv_at hl 1 rfl) ?_
    refine s_l (va_runV (As := [.int (nI ja)]) (rest := []) ⟨hx, hb, hml, hown, hts⟩ (x7_under Z o (nI 0) p0 q0 r0 mu zz fA ja (by omega)) (cwV 1 hts (lw_V q2123 q2125 qs39 q107 q2126) rfl rfl rfl (by decide +kernel) ⟨Nat.le_of_ble_eq_true rfl, Nat.le_of_ble_eq_true rfl⟩) (gP_V (va_recv hK hP (ci := 2) (q0 := 0) rfl rfl) hG hS (fun q _ h => h.elim) (hP.sub (ws' := [(o 0, .inr (2, mFs o (nI 0) p0 q0 r0 mu zz)), (o 5, .inl (dA 1, 2640, .inr (.inl fA)))]) [0, 1] rfl)) rfl rfl hl.1 rfl (lv_room (Nat.le_of_ble_eq_true rfl)) dX7_denominator_11 ⟨by first | decide | omega, by first | decide | omega⟩) ?_
    refine e_l (y := (Ms ja) 0) (hold_at (hR ja (by omega)) (i := 0) (by omega) (by omega)) ?_
    refine lv_aload_n hx hb dX7_denominator_14 rfl (lv_at hl 0 rfl) ?_
    refine lv_iload_n hx hb dX7_denominator_15 rfl (lv_at hl 1 rfl) ?_
    refine lv_iload_n hx hb dX7_denominator_16 rfl (lv_at hl 2 rfl) ?_
    refine s_l (va_runV (As := [.int (nI ja), .int (nI jb)]) (rest := [.long ((Ms ja) 0)]) ⟨hx, hb, hml, hown, hts⟩ (x7_shared Z o (nI 0) p0 q0 r0 mu zz fA ja jb (Ms ja) (by omega) (by omega) (hR ja (by omega)) (sR ja (by omega))) (cwV 2 hts (lw_V q2245 q2247 qs57 q107 q2248) rfl rfl rfl (by decide +kernel) ⟨Nat.le_of_ble_eq_true rfl, Nat.le_of_ble_eq_true rfl⟩) (gP_V (va_recv hK hP (ci := 2) (q0 := 0) rfl rfl) hG hS (fun q _ h => h.elim) (hP.sub (ws' := [(o 0, .inr (2, mFs o (nI 0) p0 q0 r0 mu zz)), (o 5, .inl (dA 1, 2640, .inr (.inl fA)))]) [0, 1] rfl)) rfl rfl hl.1 rfl (lv_room (Nat.le_of_ble_eq_true rfl)) dX7_denominator_17 ⟨by first | decide | omega, by first | decide | omega⟩) ?_
    refine lv_ldiv hx hb dX7_denominator_20 (gcdL_nz (sR ja (by omega)) _) ?_
    refine lv_l2i (v := (((Ms ja) 0) / (gcdL ((Ms ja) 0) ((Ms ja) (jb + 1)))).toInt32) hx hb dX7_denominator_21 rfl ?_
    refine lv_goto (tgt := 26) hx hb dX7_denominator_22 (by decide) ?_
    subst hQe
    exact W.iret (v := (((Ms ja) 0) / (gcdL ((Ms ja) 0) ((Ms ja) (jb + 1)))).toInt32) hx hb hr (fun t ht hW => ⟨⟨_, nI 0, rfl, (by simp [denX, rgB, blB, optC, h_a, h_b, rg_n (show ja < 8 by omega), nI_clamp (show ja < 2 ^ 31 by omega), nI_clamp (show jb < 2 ^ 31 by omega)]), B1_at ht (hP.sub [0, 1] rfl) (hD.sub [0, 1] (by decide) rfl) trivial⟩, hS.F ht⟩) hS.2.2 dX7_denominator_26
  · rw [if_neg h_ab] at hq; obtain ⟨rfl, rfl⟩ := Prod.mk.inj hq
    have hP : va_P (dC, dI) vwCl [(o 0, .inr (2, mFs o (nI 1) p0 q0 r0 mu zz)), (o 5, .inl (dA 1, 2640, .inr (.inl fA)))] H := hP
    have hD : va_D A [(o 0, .inr (2, mFs o (nI 1) p0 q0 r0 mu zz)), (o 5, .inl (dA 1, 2640, .inr (.inl fA)))] := hD
    rw [Bool.not_eq_true] at h_ab; unfold rgB blB at h_ab
    refine lv_if_eq (tgt := 25) hx hb dX7_denominator_6 (by decide) (fun c_6 => ?_) (fun c_6 => ?_)
    rotate_left
    · exact absurd (by decide) c_6
    refine lv_iconst (v := nI 0) hx hb dX7_denominator_25 (by decide) ?_
    subst hQe
    exact W.iret (v := nI 0) hx hb hr (fun t ht hW => ⟨⟨_, nI 1, rfl, (by simp [denX, rgB, blB, optC, h_ab]), B1_at ht (hP.sub [0, 1] rfl) (hD.sub [0, 1] (by decide) rfl) trivial⟩, hS.F ht⟩) hS.2.2 dX7_denominator_26
set_option maxHeartbeats 4000000 in
theorem x7_commonDenominator {l : Launch} {dC : Nat → ClassId} {dI : Nat → Nat → Nat} {dA : Nat → ClassId} {s0 : State} {b0 : Addr} (Z : Z0 l dC dI dA s0 b0) (A : Nat → Prop) (sz : Nat) (hA : ∀ q : Nat, sz ≤ q → A q) (o : Nat → Nat) (th : Int32) (p0 q0 r0 : Nat) (mu : Int64) (zz : Nat → Int32) (fA fM : Nat → Int64) (Ms : Nat → MV) (a : Int32) (hn : p0 + q0 + r0 ≤ 5) (hR : ∀ k, k < 8 → Hold fA k (Ms k)) (sR : ∀ k, k < 8 → MSm (Ms k)) : Met l yX7_commonDenominator (ws_ yX7_commonDenominator cX7_commonDenominator 2 (some .int)) ({ frames := 3, cells := 0, slots := 0, locals := 180 } : Room) (gP [.ref (o 0), .int a] s0 A (fun H => H.size = sz ∧ va_P (dC, dI) vwCl [(o 0, .inr (2, mFs o th p0 q0 r0 mu zz)), (o 5, .inl (dA 1, 2640, .inr (.inl fA)))] H ∧ va_D A [(o 0, .inr (2, mFs o th p0 q0 r0 mu zz)), (o 5, .inl (dA 1, 2640, .inr (.inl fA)))])) (va_Qi (S := Int32) (fun r u => (u, r) = cdnX Ms a) (B1 (dC, dI) A (fun u => [(o 0, .inr (2, mFs o u p0 q0 r0 mu zz)), (o 5, .inl (dA 1, 2640, .inr (.inl fA)))]) (fun _ _ => True)) A) 0 0 A := by
  refine Met.ofW (cc := cX7_commonDenominator) (maxL := 2) (ret := (some .int)) (by decide) rfl ?_
  intro p e s m args below meth c s₁ B hml hv
  obtain ⟨hav, hG, hsz, hP, hD⟩ := hv
  have hx := B.exec
  have hb := B.bytes
  have hr := B.returns
  have hts := atoms_spec (ws := (ws_ yX7_commonDenominator cX7_commonDenominator 2 (some .int))) B.pre
  have hts : ∀ w ∈ lw_all, w.before _ s = true := fun w h => hts w (List.mem_cons_of_mem _ h)
  have hown : s.vm.findClass RX7 = some m.cls := findClass_of_methodNamed B.named
  have hlocks := B.notSynchronized
  have hK := hG.K Z
  subst hsz
  have hS : va_S A s.heap s.heap [] := va_S.rf
  have hl := lv_entry ([.ref (o 0), .int a]) (n := 2) (Nat.le_of_ble_eq_true rfl)
  rw [show entryFrame m args 2 = entryFrame m ([.ref (o 0), .int a] : List Value).toArray 2 from by rw [hav], lg_entry_eq]
  generalize (lg_sl ([.ref (o 0), .int a]) ++ List.replicate (2 - (lg_sl ([.ref (o 0), .int a])).length) Slot.unset).toArray = ls at hl ⊢
  have hl : lv_has ls 2 [(0, .ref (o 0)), (1, .int a)] := hl
  generalize hQe : MQ below _ _ s _ _ _ = Q
  change W p l e ({ frames := 3, cells := 0, slots := 0, locals := 180 } : Room) s m args below meth c s.heap [] 0 0 Q (F0 m 0 ls [])
  refine lv_aload_n hx hb dX7_commonDenominator_0 rfl (lv_at hl 0 rfl) ?_
  refine lv_iload_n hx hb dX7_commonDenominator_1 rfl (lv_at hl 1 rfl) ?_
  refine s_i (va_runS (As := [.int a]) (rest := [.ref (o 0)]) ⟨hx, hb, hml, hown, hts⟩ (x7_isRegister Z a) (va_cwS 1 hts (lw_S q2104 q2105 q107 q2106) rfl rfl rfl (by decide +kernel) ⟨Nat.le_of_ble_eq_true rfl, Nat.le_of_ble_eq_true rfl⟩) (gP_S hG hS (fun q _ h => h.elim) trivial) rfl rfl hl.1 rfl (lv_room (Nat.le_of_ble_eq_true rfl)) dX7_commonDenominator_2 ⟨by first | decide | omega, by first | decide | omega⟩) ?_
  refine lv_if_eq (tgt := 12) hx hb dX7_commonDenominator_5 (by decide) (fun c_5 => ?_) (fun c_5 => ?_)
  · have h_a := bI_0 c_5
    refine lv_iconst (v := nI 1) hx hb dX7_commonDenominator_12 (by decide) ?_
    refine va_put (D := (dC, dI)) (ci := 2) (v := .int (nI 1)) (ty := .int) (C := RX7) (T := TX7) (N := 27) hx hb hts in_X7 tyX7 tyX7_ok nmX7 hown hK hP hD hS 0 rfl rfl 0 (by decide) (hts _ q2006) (fun _ h9 => h9) rfl (by decide +kernel) rfl rfl (Nat.le_of_ble_eq_true rfl) dX7_commonDenominator_13 (fun H locs hP hD hS => ?_)
    have hP : va_P (dC, dI) vwCl [(o 0, .inr (2, mFs o (nI 1) p0 q0 r0 mu zz)), (o 5, .inl (dA 1, 2640, .inr (.inl fA)))] H := hP
    have hD : va_D A [(o 0, .inr (2, mFs o (nI 1) p0 q0 r0 mu zz)), (o 5, .inl (dA 1, 2640, .inr (.inl fA)))] := hD
    refine lv_aload_n hx hb dX7_commonDenominator_16 rfl (lv_at hl 0 rfl) ?_
    refine va_get (D := (dC, dI)) (ci := 2) (v := .int (nI 1)) (C := RX7) (T := TX7) (N := 27) hx hb hts in_X7 hown hK hP 0 rfl rfl 0 (by decide) (hts _ q2006) (fun _ h9 => h9) rfl dX7_commonDenominator_17 ?_
    refine lv_if_le (tgt := 27) hx hb dX7_commonDenominator_20 (by decide) (fun c_20 => ?_) (fun c_20 => ?_)
    · exact absurd c_20 (by decide)
    refine lv_iconst (v := nI 0) hx hb dX7_commonDenominator_23 (by decide) ?_
    refine lv_goto (tgt := 33) hx hb dX7_commonDenominator_24 (by decide) ?_
    subst hQe
    exact W.iret (v := nI 0) hx hb hr (fun t ht hW => ⟨⟨_, nI 1, rfl, (by simp [cdnX, rgB, blB, optC, h_a]), B1_at ht (hP.sub [0, 1] rfl) (hD.sub [0, 1] (by decide) rfl) trivial⟩, hS.F ht⟩) hS.2.2 dX7_commonDenominator_33
  · have h_a := bI_1 c_5
    obtain ⟨ja, hj_a, rfl⟩ := inB_nat (by decide) h_a
    refine lv_iconst (v := nI 0) hx hb dX7_commonDenominator_8 (by decide) ?_
    refine lv_goto (tgt := 13) hx hb dX7_commonDenominator_9 (by decide) ?_
    refine va_put (D := (dC, dI)) (ci := 2) (v := .int (nI 0)) (ty := .int) (C := RX7) (T := TX7) (N := 27) hx hb hts in_X7 tyX7 tyX7_ok nmX7 hown hK hP hD hS 0 rfl rfl 0 (by decide) (hts _ q2006) (fun _ h9 => h9) rfl (by decide +kernel) rfl rfl (Nat.le_of_ble_eq_true rfl) dX7_commonDenominator_13 (fun H locs hP hD hS => ?_)
    have hP : va_P (dC, dI) vwCl [(o 0, .inr (2, mFs o (nI 0) p0 q0 r0 mu zz)), (o 5, .inl (dA 1, 2640, .inr (.inl fA)))] H := hP
    have hD : va_D A [(o 0, .inr (2, mFs o (nI 0) p0 q0 r0 mu zz)), (o 5, .inl (dA 1, 2640, .inr (.inl fA)))] := hD
    refine lv_aload_n hx hb dX7_commonDenominator_16 rfl (lv_at hl 0 rfl) ?_
    refine va_get (D := (dC, dI)) (ci := 2) (v := .int (nI 0)) (C := RX7) (T := TX7) (N := 27) hx hb hts in_X7 hown hK hP 0 rfl rfl 0 (by decide) (hts _ q2006) (fun _ h9 => h9) rfl dX7_commonDenominator_17 ?_
    refine lv_if_le (tgt := 27) hx hb dX7_commonDenominator_20 (by decide) (fun c_20 => ?_) (fun c_20 => ?_)
    rotate_left
    · exact absurd (by decide) c_20
    refine lv_aload_n hx hb dX7_commonDenominator_27 rfl (lv_at hl 0 rfl) ?_
    refine lv_iload_n hx hb dX7_commonDenominator_28 rfl (lv_at hl 1 rfl) ?_
    refine s_l (va_runV (As := [.int (nI ja)]) (rest := []) ⟨hx, hb, hml, hown, hts⟩ (x7_under Z o (nI 0) p0 q0 r0 mu zz fA ja (by omega)) (cwV 1 hts (lw_V q2123 q2125 qs39 q107 q2126) rfl rfl rfl (by decide +kernel) ⟨Nat.le_of_ble_eq_true rfl, Nat.le_of_ble_eq_true rfl⟩) (gP_V (va_recv hK hP (ci := 2) (q0 := 0) rfl rfl) hG hS (fun q _ h => h.elim) (hP.sub (ws' := [(o 0, .inr (2, mFs o (nI 0) p0 q0 r0 mu zz)), (o 5, .inl (dA 1, 2640, .inr (.inl fA)))]) [0, 1] rfl)) rfl rfl hl.1 rfl (lv_room (Nat.le_of_ble_eq_true rfl)) dX7_commonDenominator_29 ⟨by first | decide | omega, by first | decide | omega⟩) ?_
    refine e_l (y := (Ms ja) 0) (hold_at (hR ja (by omega)) (i := 0) (by omega) (by omega)) ?_
    refine lv_l2i (v := ((Ms ja) 0).toInt32) hx hb dX7_commonDenominator_32 rfl ?_
    subst hQe
    exact W.iret (v := ((Ms ja) 0).toInt32) hx hb hr (fun t ht hW => ⟨⟨_, nI 0, rfl, (by simp [cdnX, rgB, blB, optC, h_a, rg_n (show ja < 8 by omega), nI_clamp (show ja < 2 ^ 31 by omega)]), B1_at ht (hP.sub [0, 1] rfl) (hD.sub [0, 1] (by decide) rfl) trivial⟩, hS.F ht⟩) hS.2.2 dX7_commonDenominator_33
set_option maxHeartbeats 4000000 in
theorem x7_sign {l : Launch} {dC : Nat → ClassId} {dI : Nat → Nat → Nat} {dA : Nat → ClassId} {s0 : State} {b0 : Addr} (Z : Z0 l dC dI dA s0 b0) (A : Nat → Prop) (sz : Nat) (hA : ∀ q : Nat, sz ≤ q → A q) (o : Nat → Nat) (th : Int32) (p0 q0 r0 : Nat) (mu : Int64) (zz : Nat → Int32) (fA fM : Nat → Int64) (Ms : Nat → MV) (a : Int32) (b : Int32) (hn : p0 + q0 + r0 ≤ 5) (hR : ∀ k, k < 8 → Hold fA k (Ms k)) (sR : ∀ k, k < 8 → MSm (Ms k)) : Met l yX7_sign (ws_ yX7_sign cX7_sign 3 (some .int)) ({ frames := 4, cells := 0, slots := 0, locals := 240 } : Room) (gP [.ref (o 0), .int a, .int b] s0 A (fun H => H.size = sz ∧ va_P (dC, dI) vwCl [(o 0, .inr (2, mFs o th p0 q0 r0 mu zz)), (o 5, .inl (dA 1, 2640, .inr (.inl fA)))] H ∧ va_D A [(o 0, .inr (2, mFs o th p0 q0 r0 mu zz)), (o 5, .inl (dA 1, 2640, .inr (.inl fA)))])) (va_Qi (S := Int32) (fun r u => (u, r) = sgnX p0 q0 r0 a b) (B1 (dC, dI) A (fun u => [(o 0, .inr (2, mFs o u p0 q0 r0 mu zz)), (o 5, .inl (dA 1, 2640, .inr (.inl fA)))]) (fun _ _ => True)) A) 0 0 A := by
  refine Met.ofW (cc := cX7_sign) (maxL := 3) (ret := (some .int)) (by decide) rfl ?_
  intro p e s m args below meth c s₁ B hml hv
  obtain ⟨hav, hG, hsz, hP, hD⟩ := hv
  have hx := B.exec
  have hb := B.bytes
  have hr := B.returns
  have hts := atoms_spec (ws := (ws_ yX7_sign cX7_sign 3 (some .int))) B.pre
  have hts : ∀ w ∈ lw_all, w.before _ s = true := fun w h => hts w (List.mem_cons_of_mem _ h)
  have hown : s.vm.findClass RX7 = some m.cls := findClass_of_methodNamed B.named
  have hlocks := B.notSynchronized
  have hK := hG.K Z
  subst hsz
  have hS : va_S A s.heap s.heap [] := va_S.rf
  have hl := lv_entry ([.ref (o 0), .int a, .int b]) (n := 3) (Nat.le_of_ble_eq_true rfl)
  rw [show entryFrame m args 3 = entryFrame m ([.ref (o 0), .int a, .int b] : List Value).toArray 3 from by rw [hav], lg_entry_eq]
  generalize (lg_sl ([.ref (o 0), .int a, .int b]) ++ List.replicate (3 - (lg_sl ([.ref (o 0), .int a, .int b])).length) Slot.unset).toArray = ls at hl ⊢
  have hl : lv_has ls 3 [(0, .ref (o 0)), (1, .int a), (2, .int b)] := hl
  generalize hQe : MQ below _ _ s _ _ _ = Q
  change W p l e ({ frames := 4, cells := 0, slots := 0, locals := 240 } : Room) s m args below meth c s.heap [] 0 0 Q (F0 m 0 ls [])
  refine lv_aload_n hx hb dX7_sign_0 rfl (lv_at hl 0 rfl) ?_
  refine lv_aload_n hx hb dX7_sign_1 rfl (lv_at hl 0 rfl) ?_
  refine lv_iload_n hx hb dX7_sign_2 rfl (lv_at hl 1 rfl) ?_
  refine s_i (va_runV (As := [.int a]) (rest := [.ref (o 0)]) ⟨hx, hb, hml, hown, hts⟩ (x7_isBlade0 Z o th p0 q0 r0 mu zz a (by omega)) (cwV 1 hts (lw_V q2233 q2235 qs55 q107 q2236) rfl rfl rfl (by decide +kernel) ⟨Nat.le_of_ble_eq_true rfl, Nat.le_of_ble_eq_true rfl⟩) (gP_V (va_recv hK hP (ci := 2) (q0 := 0) rfl rfl) hG hS (fun q _ h => h.elim) (hP.sub (ws' := [(o 0, .inr (2, mFs o th p0 q0 r0 mu zz))]) [0] rfl)) rfl rfl hl.1 rfl (lv_room (Nat.le_of_ble_eq_true rfl)) dX7_sign_3 ⟨by first | decide | omega, by first | decide | omega⟩) ?_
  refine lv_if_eq (tgt := 21) hx hb dX7_sign_6 (by decide) (fun c_6 => ?_) (fun c_6 => ?_)
  · have h_a := bI_0 c_6
    refine lv_iconst (v := nI 1) hx hb dX7_sign_21 (by decide) ?_
    refine va_put (D := (dC, dI)) (ci := 2) (v := .int (nI 1)) (ty := .int) (C := RX7) (T := TX7) (N := 27) hx hb hts in_X7 tyX7 tyX7_ok nmX7 hown hK hP hD hS 0 rfl rfl 0 (by decide) (hts _ q2006) (fun _ h9 => h9) rfl (by decide +kernel) rfl rfl (Nat.le_of_ble_eq_true rfl) dX7_sign_22 (fun H locs hP hD hS => ?_)
    have hP : va_P (dC, dI) vwCl [(o 0, .inr (2, mFs o (nI 1) p0 q0 r0 mu zz)), (o 5, .inl (dA 1, 2640, .inr (.inl fA)))] H := hP
    have hD : va_D A [(o 0, .inr (2, mFs o (nI 1) p0 q0 r0 mu zz)), (o 5, .inl (dA 1, 2640, .inr (.inl fA)))] := hD
    refine lv_aload_n hx hb dX7_sign_25 rfl (lv_at hl 0 rfl) ?_
    refine va_get (D := (dC, dI)) (ci := 2) (v := .int (nI 1)) (C := RX7) (T := TX7) (N := 27) hx hb hts in_X7 hown hK hP 0 rfl rfl 0 (by decide) (hts _ q2006) (fun _ h9 => h9) rfl dX7_sign_26 ?_
    refine lv_if_le (tgt := 36) hx hb dX7_sign_29 (by decide) (fun c_29 => ?_) (fun c_29 => ?_)
    · exact absurd c_29 (by decide)
    refine lv_iconst (v := nI 0) hx hb dX7_sign_32 (by decide) ?_
    refine lv_goto (tgt := 42) hx hb dX7_sign_33 (by decide) ?_
    subst hQe
    exact W.iret (v := nI 0) hx hb hr (fun t ht hW => ⟨⟨_, nI 1, rfl, (by simp [sgnX, rgB, blB, optC, h_a]), B1_at ht (hP.sub [0, 1] rfl) (hD.sub [0, 1] (by decide) rfl) trivial⟩, hS.F ht⟩) hS.2.2 dX7_sign_42
  · have h_a := bI_1 c_6
    obtain ⟨ja, hj_a, rfl⟩ := inB_nat (by have := pow5 hn; omega) h_a
    have hj2_a : ja < 32 := by have := pow5 hn; omega
    refine lv_aload_n hx hb dX7_sign_9 rfl (lv_at hl 0 rfl) ?_
    refine lv_iload_n hx hb dX7_sign_10 rfl (lv_at hl 2 rfl) ?_
    refine s_i (va_runV (As := [.int b]) (rest := [.ref (o 0)]) ⟨hx, hb, hml, hown, hts⟩ (x7_isBlade0 Z o th p0 q0 r0 mu zz b (by omega)) (cwV 1 hts (lw_V q2233 q2235 qs55 q107 q2236) rfl rfl rfl (by decide +kernel) ⟨Nat.le_of_ble_eq_true rfl, Nat.le_of_ble_eq_true rfl⟩) (gP_V (va_recv hK hP (ci := 2) (q0 := 0) rfl rfl) hG hS (fun q _ h => h.elim) (hP.sub (ws' := [(o 0, .inr (2, mFs o th p0 q0 r0 mu zz))]) [0] rfl)) rfl rfl hl.1 rfl (lv_room (Nat.le_of_ble_eq_true rfl)) dX7_sign_11 ⟨by first | decide | omega, by first | decide | omega⟩) ?_
    refine lv_if_eq (tgt := 21) hx hb dX7_sign_14 (by decide) (fun c_14 => ?_) (fun c_14 => ?_)
    · have h_b := bI_0 c_14
      refine lv_iconst (v := nI 1) hx hb dX7_sign_21 (by decide) ?_
      refine va_put (D := (dC, dI)) (ci := 2) (v := .int (nI 1)) (ty := .int) (C := RX7) (T := TX7) (N := 27) hx hb hts in_X7 tyX7 tyX7_ok nmX7 hown hK hP hD hS 0 rfl rfl 0 (by decide) (hts _ q2006) (fun _ h9 => h9) rfl (by decide +kernel) rfl rfl (Nat.le_of_ble_eq_true rfl) dX7_sign_22 (fun H locs hP hD hS => ?_)
      have hP : va_P (dC, dI) vwCl [(o 0, .inr (2, mFs o (nI 1) p0 q0 r0 mu zz)), (o 5, .inl (dA 1, 2640, .inr (.inl fA)))] H := hP
      have hD : va_D A [(o 0, .inr (2, mFs o (nI 1) p0 q0 r0 mu zz)), (o 5, .inl (dA 1, 2640, .inr (.inl fA)))] := hD
      refine lv_aload_n hx hb dX7_sign_25 rfl (lv_at hl 0 rfl) ?_
      refine va_get (D := (dC, dI)) (ci := 2) (v := .int (nI 1)) (C := RX7) (T := TX7) (N := 27) hx hb hts in_X7 hown hK hP 0 rfl rfl 0 (by decide) (hts _ q2006) (fun _ h9 => h9) rfl dX7_sign_26 ?_
      refine lv_if_le (tgt := 36) hx hb dX7_sign_29 (by decide) (fun c_29 => ?_) (fun c_29 => ?_)
      · exact absurd c_29 (by decide)
      refine lv_iconst (v := nI 0) hx hb dX7_sign_32 (by decide) ?_
      refine lv_goto (tgt := 42) hx hb dX7_sign_33 (by decide) ?_
      subst hQe
      exact W.iret (v := nI 0) hx hb hr (fun t ht hW => ⟨⟨_, nI 1, rfl, (by simp [sgnX, rgB, blB, optC, h_a, h_b, nI_clamp (show ja < 2 ^ 31 by omega)]), B1_at ht (hP.sub [0, 1] rfl) (hD.sub [0, 1] (by decide) rfl) trivial⟩, hS.F ht⟩) hS.2.2 dX7_sign_42
    · have h_b := bI_1 c_14
      obtain ⟨jb, hj_b, rfl⟩ := inB_nat (by have := pow5 hn; omega) h_b
      have hj2_b : jb < 32 := by have := pow5 hn; omega
      refine lv_iconst (v := nI 0) hx hb dX7_sign_17 (by decide) ?_
      refine lv_goto (tgt := 22) hx hb dX7_sign_18 (by decide) ?_
      refine va_put (D := (dC, dI)) (ci := 2) (v := .int (nI 0)) (ty := .int) (C := RX7) (T := TX7) (N := 27) hx hb hts in_X7 tyX7 tyX7_ok nmX7 hown hK hP hD hS 0 rfl rfl 0 (by decide) (hts _ q2006) (fun _ h9 => h9) rfl (by decide +kernel) rfl rfl (Nat.le_of_ble_eq_true rfl) dX7_sign_22 (fun H locs hP hD hS => ?_)
      have hP : va_P (dC, dI) vwCl [(o 0, .inr (2, mFs o (nI 0) p0 q0 r0 mu zz)), (o 5, .inl (dA 1, 2640, .inr (.inl fA)))] H := hP
      have hD : va_D A [(o 0, .inr (2, mFs o (nI 0) p0 q0 r0 mu zz)), (o 5, .inl (dA 1, 2640, .inr (.inl fA)))] := hD
      refine lv_aload_n hx hb dX7_sign_25 rfl (lv_at hl 0 rfl) ?_
      refine va_get (D := (dC, dI)) (ci := 2) (v := .int (nI 0)) (C := RX7) (T := TX7) (N := 27) hx hb hts in_X7 hown hK hP 0 rfl rfl 0 (by decide) (hts _ q2006) (fun _ h9 => h9) rfl dX7_sign_26 ?_
      refine lv_if_le (tgt := 36) hx hb dX7_sign_29 (by decide) (fun c_29 => ?_) (fun c_29 => ?_)
      rotate_left
      · exact absurd (by decide) c_29
      refine lv_aload_n hx hb dX7_sign_36 rfl (lv_at hl 0 rfl) ?_
      refine lv_iload_n hx hb dX7_sign_37 rfl (lv_at hl 1 rfl) ?_
      refine lv_iload_n hx hb dX7_sign_38 rfl (lv_at hl 2 rfl) ?_
      refine s_i (va_runV (As := [.int (nI ja), .int (nI jb)]) (rest := []) ⟨hx, hb, hml, hown, hts⟩ (x7_signOf Z o (nI 0) p0 q0 r0 mu zz ja jb (by omega) (by omega) (by omega)) (cwV 2 hts (lw_V q2161 q2163 qs45 q107 q2164) rfl rfl rfl (by decide +kernel) ⟨Nat.le_of_ble_eq_true rfl, Nat.le_of_ble_eq_true rfl⟩) (gP_V (va_recv hK hP (ci := 2) (q0 := 0) rfl rfl) hG hS (fun q _ h => h.elim) (hP.sub (ws' := [(o 0, .inr (2, mFs o (nI 0) p0 q0 r0 mu zz))]) [0] rfl)) rfl rfl hl.1 rfl (lv_room (Nat.le_of_ble_eq_true rfl)) dX7_sign_39 ⟨by first | decide | omega, by first | decide | omega⟩) ?_
      subst hQe
      exact W.iret (v := sgS p0 q0 r0 ja jb) hx hb hr (fun t ht hW => ⟨⟨_, nI 0, rfl, (by simp [sgnX, rgB, blB, optC, h_a, h_b, nI_clamp (show ja < 2 ^ 31 by omega), nI_clamp (show jb < 2 ^ 31 by omega)]), B1_at ht (hP.sub [0, 1] rfl) (hD.sub [0, 1] (by decide) rfl) trivial⟩, hS.F ht⟩) hS.2.2 dX7_sign_42
set_option maxHeartbeats 4000000 in
theorem x7_grades {l : Launch} {dC : Nat → ClassId} {dI : Nat → Nat → Nat} {dA : Nat → ClassId} {s0 : State} {b0 : Addr} (Z : Z0 l dC dI dA s0 b0) (A : Nat → Prop) (sz : Nat) (hA : ∀ q : Nat, sz ≤ q → A q) (o : Nat → Nat) (th : Int32) (p0 q0 r0 : Nat) (mu : Int64) (zz : Nat → Int32) (fA fM : Nat → Int64) (Ms : Nat → MV) (a : Int32) (hn : p0 + q0 + r0 ≤ 5) (hR : ∀ k, k < 8 → Hold fA k (Ms k)) (sR : ∀ k, k < 8 → MSm (Ms k)) : Met l yX7_grades (ws_ yX7_grades cX7_grades 2 (some .int)) ({ frames := 4, cells := 0, slots := 0, locals := 240 } : Room) (gP [.ref (o 0), .int a] s0 A (fun H => H.size = sz ∧ va_P (dC, dI) vwCl [(o 0, .inr (2, mFs o th p0 q0 r0 mu zz)), (o 5, .inl (dA 1, 2640, .inr (.inl fA)))] H ∧ va_D A [(o 0, .inr (2, mFs o th p0 q0 r0 mu zz)), (o 5, .inl (dA 1, 2640, .inr (.inl fA)))])) (va_Qi (S := Int32) (fun r u => (u, r) = grsX Ms a) (B1 (dC, dI) A (fun u => [(o 0, .inr (2, mFs o u p0 q0 r0 mu zz)), (o 5, .inl (dA 1, 2640, .inr (.inl fA)))]) (fun _ _ => True)) A) 0 0 A := by
  refine Met.ofW (cc := cX7_grades) (maxL := 2) (ret := (some .int)) (by decide) rfl ?_
  intro p e s m args below meth c s₁ B hml hv
  obtain ⟨hav, hG, hsz, hP, hD⟩ := hv
  have hx := B.exec
  have hb := B.bytes
  have hr := B.returns
  have hts := atoms_spec (ws := (ws_ yX7_grades cX7_grades 2 (some .int))) B.pre
  have hts : ∀ w ∈ lw_all, w.before _ s = true := fun w h => hts w (List.mem_cons_of_mem _ h)
  have hown : s.vm.findClass RX7 = some m.cls := findClass_of_methodNamed B.named
  have hlocks := B.notSynchronized
  have hK := hG.K Z
  subst hsz
  have hS : va_S A s.heap s.heap [] := va_S.rf
  have hl := lv_entry ([.ref (o 0), .int a]) (n := 2) (Nat.le_of_ble_eq_true rfl)
  rw [show entryFrame m args 2 = entryFrame m ([.ref (o 0), .int a] : List Value).toArray 2 from by rw [hav], lg_entry_eq]
  generalize (lg_sl ([.ref (o 0), .int a]) ++ List.replicate (2 - (lg_sl ([.ref (o 0), .int a])).length) Slot.unset).toArray = ls at hl ⊢
  have hl : lv_has ls 2 [(0, .ref (o 0)), (1, .int a)] := hl
  generalize hQe : MQ below _ _ s _ _ _ = Q
  change W p l e ({ frames := 4, cells := 0, slots := 0, locals := 240 } : Room) s m args below meth c s.heap [] 0 0 Q (F0 m 0 ls [])
  refine lv_aload_n hx hb dX7_grades_0 rfl (lv_at hl 0 rfl) ?_
  refine lv_iload_n hx hb dX7_grades_1 rfl (lv_at hl 1 rfl) ?_
  refine s_i (va_runS (As := [.int a]) (rest := [.ref (o 0)]) ⟨hx, hb, hml, hown, hts⟩ (x7_isRegister Z a) (va_cwS 1 hts (lw_S q2104 q2105 q107 q2106) rfl rfl rfl (by decide +kernel) ⟨Nat.le_of_ble_eq_true rfl, Nat.le_of_ble_eq_true rfl⟩) (gP_S hG hS (fun q _ h => h.elim) trivial) rfl rfl hl.1 rfl (lv_room (Nat.le_of_ble_eq_true rfl)) dX7_grades_2 ⟨by first | decide | omega, by first | decide | omega⟩) ?_
  refine lv_if_eq (tgt := 12) hx hb dX7_grades_5 (by decide) (fun c_5 => ?_) (fun c_5 => ?_)
  · have h_a := bI_0 c_5
    refine lv_iconst (v := nI 1) hx hb dX7_grades_12 (by decide) ?_
    refine va_put (D := (dC, dI)) (ci := 2) (v := .int (nI 1)) (ty := .int) (C := RX7) (T := TX7) (N := 27) hx hb hts in_X7 tyX7 tyX7_ok nmX7 hown hK hP hD hS 0 rfl rfl 0 (by decide) (hts _ q2006) (fun _ h9 => h9) rfl (by decide +kernel) rfl rfl (Nat.le_of_ble_eq_true rfl) dX7_grades_13 (fun H locs hP hD hS => ?_)
    have hP : va_P (dC, dI) vwCl [(o 0, .inr (2, mFs o (nI 1) p0 q0 r0 mu zz)), (o 5, .inl (dA 1, 2640, .inr (.inl fA)))] H := hP
    have hD : va_D A [(o 0, .inr (2, mFs o (nI 1) p0 q0 r0 mu zz)), (o 5, .inl (dA 1, 2640, .inr (.inl fA)))] := hD
    refine lv_aload_n hx hb dX7_grades_16 rfl (lv_at hl 0 rfl) ?_
    refine va_get (D := (dC, dI)) (ci := 2) (v := .int (nI 1)) (C := RX7) (T := TX7) (N := 27) hx hb hts in_X7 hown hK hP 0 rfl rfl 0 (by decide) (hts _ q2006) (fun _ h9 => h9) rfl dX7_grades_17 ?_
    refine lv_if_le (tgt := 27) hx hb dX7_grades_20 (by decide) (fun c_20 => ?_) (fun c_20 => ?_)
    · exact absurd c_20 (by decide)
    refine lv_iconst (v := nI 0) hx hb dX7_grades_23 (by decide) ?_
    refine lv_goto (tgt := 32) hx hb dX7_grades_24 (by decide) ?_
    subst hQe
    exact W.iret (v := nI 0) hx hb hr (fun t ht hW => ⟨⟨_, nI 1, rfl, (by simp [grsX, rgB, blB, optC, h_a]), B1_at ht (hP.sub [0, 1] rfl) (hD.sub [0, 1] (by decide) rfl) trivial⟩, hS.F ht⟩) hS.2.2 dX7_grades_32
  · have h_a := bI_1 c_5
    obtain ⟨ja, hj_a, rfl⟩ := inB_nat (by decide) h_a
    refine lv_iconst (v := nI 0) hx hb dX7_grades_8 (by decide) ?_
    refine lv_goto (tgt := 13) hx hb dX7_grades_9 (by decide) ?_
    refine va_put (D := (dC, dI)) (ci := 2) (v := .int (nI 0)) (ty := .int) (C := RX7) (T := TX7) (N := 27) hx hb hts in_X7 tyX7 tyX7_ok nmX7 hown hK hP hD hS 0 rfl rfl 0 (by decide) (hts _ q2006) (fun _ h9 => h9) rfl (by decide +kernel) rfl rfl (Nat.le_of_ble_eq_true rfl) dX7_grades_13 (fun H locs hP hD hS => ?_)
    have hP : va_P (dC, dI) vwCl [(o 0, .inr (2, mFs o (nI 0) p0 q0 r0 mu zz)), (o 5, .inl (dA 1, 2640, .inr (.inl fA)))] H := hP
    have hD : va_D A [(o 0, .inr (2, mFs o (nI 0) p0 q0 r0 mu zz)), (o 5, .inl (dA 1, 2640, .inr (.inl fA)))] := hD
    refine lv_aload_n hx hb dX7_grades_16 rfl (lv_at hl 0 rfl) ?_
    refine va_get (D := (dC, dI)) (ci := 2) (v := .int (nI 0)) (C := RX7) (T := TX7) (N := 27) hx hb hts in_X7 hown hK hP 0 rfl rfl 0 (by decide) (hts _ q2006) (fun _ h9 => h9) rfl dX7_grades_17 ?_
    refine lv_if_le (tgt := 27) hx hb dX7_grades_20 (by decide) (fun c_20 => ?_) (fun c_20 => ?_)
    rotate_left
    · exact absurd (by decide) c_20
    refine lv_aload_n hx hb dX7_grades_27 rfl (lv_at hl 0 rfl) ?_
    refine lv_iload_n hx hb dX7_grades_28 rfl (lv_at hl 1 rfl) ?_
    refine s_i (va_runV (As := [.int (nI ja)]) (rest := []) ⟨hx, hb, hml, hown, hts⟩ (x7_gradesOf Z o (nI 0) p0 q0 r0 mu zz fA ja (Ms ja) (by omega) (hR ja (by omega))) (cwV 1 hts (lw_V q2273 q2275 qs59 q107 q2276) rfl rfl rfl (by decide +kernel) ⟨Nat.le_of_ble_eq_true rfl, Nat.le_of_ble_eq_true rfl⟩) (gP_V (va_recv hK hP (ci := 2) (q0 := 0) rfl rfl) hG hS (fun q _ h => h.elim) (hP.sub (ws' := [(o 0, .inr (2, mFs o (nI 0) p0 q0 r0 mu zz)), (o 5, .inl (dA 1, 2640, .inr (.inl fA)))]) [0, 1] rfl)) rfl rfl hl.1 rfl (lv_room (Nat.le_of_ble_eq_true rfl)) dX7_grades_29 ⟨by first | decide | omega, by first | decide | omega⟩) ?_
    subst hQe
    exact W.iret (v := nI (grS (Ms ja))) hx hb hr (fun t ht hW => ⟨⟨_, nI 0, rfl, (by simp [grsX, rgB, blB, optC, h_a, rg_n (show ja < 8 by omega), nI_clamp (show ja < 2 ^ 31 by omega)]), B1_at ht (hP.sub [0, 1] rfl) (hD.sub [0, 1] (by decide) rfl) trivial⟩, hS.F ht⟩) hS.2.2 dX7_grades_32
set_option maxHeartbeats 4000000 in
theorem x7_areEqual {l : Launch} {dC : Nat → ClassId} {dI : Nat → Nat → Nat} {dA : Nat → ClassId} {s0 : State} {b0 : Addr} (Z : Z0 l dC dI dA s0 b0) (A : Nat → Prop) (sz : Nat) (hA : ∀ q : Nat, sz ≤ q → A q) (o : Nat → Nat) (th : Int32) (p0 q0 r0 : Nat) (mu : Int64) (zz : Nat → Int32) (fA fM : Nat → Int64) (Ms : Nat → MV) (a : Int32) (b : Int32) (hn : p0 + q0 + r0 ≤ 5) (hR : ∀ k, k < 8 → Hold fA k (Ms k)) (sR : ∀ k, k < 8 → MSm (Ms k)) : Met l yX7_areEqual (ws_ yX7_areEqual cX7_areEqual 3 (some .boolean)) ({ frames := 4, cells := 0, slots := 0, locals := 240 } : Room) (gP [.ref (o 0), .int a, .int b] s0 A (fun H => H.size = sz ∧ va_P (dC, dI) vwCl [(o 0, .inr (2, mFs o th p0 q0 r0 mu zz)), (o 5, .inl (dA 1, 2640, .inr (.inl fA)))] H ∧ va_D A [(o 0, .inr (2, mFs o th p0 q0 r0 mu zz)), (o 5, .inl (dA 1, 2640, .inr (.inl fA)))])) (va_Qi (S := Int32) (fun r u => (u, r) = eqX Ms a b) (B1 (dC, dI) A (fun u => [(o 0, .inr (2, mFs o u p0 q0 r0 mu zz)), (o 5, .inl (dA 1, 2640, .inr (.inl fA)))]) (fun _ _ => True)) A) 0 0 A := by
  refine Met.ofW (cc := cX7_areEqual) (maxL := 3) (ret := (some .boolean)) (by decide) rfl ?_
  intro p e s m args below meth c s₁ B hml hv
  obtain ⟨hav, hG, hsz, hP, hD⟩ := hv
  have hx := B.exec
  have hb := B.bytes
  have hr := B.returns
  have hts := atoms_spec (ws := (ws_ yX7_areEqual cX7_areEqual 3 (some .boolean))) B.pre
  have hts : ∀ w ∈ lw_all, w.before _ s = true := fun w h => hts w (List.mem_cons_of_mem _ h)
  have hown : s.vm.findClass RX7 = some m.cls := findClass_of_methodNamed B.named
  have hlocks := B.notSynchronized
  have hK := hG.K Z
  subst hsz
  have hS : va_S A s.heap s.heap [] := va_S.rf
  have hl := lv_entry ([.ref (o 0), .int a, .int b]) (n := 3) (Nat.le_of_ble_eq_true rfl)
  rw [show entryFrame m args 3 = entryFrame m ([.ref (o 0), .int a, .int b] : List Value).toArray 3 from by rw [hav], lg_entry_eq]
  generalize (lg_sl ([.ref (o 0), .int a, .int b]) ++ List.replicate (3 - (lg_sl ([.ref (o 0), .int a, .int b])).length) Slot.unset).toArray = ls at hl ⊢
  have hl : lv_has ls 3 [(0, .ref (o 0)), (1, .int a), (2, .int b)] := hl
  generalize hQe : MQ below _ _ s _ _ _ = Q
  change W p l e ({ frames := 4, cells := 0, slots := 0, locals := 240 } : Room) s m args below meth c s.heap [] 0 0 Q (F0 m 0 ls [])
  refine lv_aload_n hx hb dX7_areEqual_0 rfl (lv_at hl 0 rfl) ?_
  refine lv_iload_n hx hb dX7_areEqual_1 rfl (lv_at hl 1 rfl) ?_
  refine s_i (va_runS (As := [.int a]) (rest := [.ref (o 0)]) ⟨hx, hb, hml, hown, hts⟩ (x7_isRegister Z a) (va_cwS 1 hts (lw_S q2104 q2105 q107 q2106) rfl rfl rfl (by decide +kernel) ⟨Nat.le_of_ble_eq_true rfl, Nat.le_of_ble_eq_true rfl⟩) (gP_S hG hS (fun q _ h => h.elim) trivial) rfl rfl hl.1 rfl (lv_room (Nat.le_of_ble_eq_true rfl)) dX7_areEqual_2 ⟨by first | decide | omega, by first | decide | omega⟩) ?_
  refine lv_if_eq (tgt := 19) hx hb dX7_areEqual_5 (by decide) (fun c_5 => ?_) (fun c_5 => ?_)
  · have h_a := bI_0 c_5
    refine lv_iconst (v := nI 1) hx hb dX7_areEqual_19 (by decide) ?_
    refine va_put (D := (dC, dI)) (ci := 2) (v := .int (nI 1)) (ty := .int) (C := RX7) (T := TX7) (N := 27) hx hb hts in_X7 tyX7 tyX7_ok nmX7 hown hK hP hD hS 0 rfl rfl 0 (by decide) (hts _ q2006) (fun _ h9 => h9) rfl (by decide +kernel) rfl rfl (Nat.le_of_ble_eq_true rfl) dX7_areEqual_20 (fun H locs hP hD hS => ?_)
    have hP : va_P (dC, dI) vwCl [(o 0, .inr (2, mFs o (nI 1) p0 q0 r0 mu zz)), (o 5, .inl (dA 1, 2640, .inr (.inl fA)))] H := hP
    have hD : va_D A [(o 0, .inr (2, mFs o (nI 1) p0 q0 r0 mu zz)), (o 5, .inl (dA 1, 2640, .inr (.inl fA)))] := hD
    refine lv_aload_n hx hb dX7_areEqual_23 rfl (lv_at hl 0 rfl) ?_
    refine va_get (D := (dC, dI)) (ci := 2) (v := .int (nI 1)) (C := RX7) (T := TX7) (N := 27) hx hb hts in_X7 hown hK hP 0 rfl rfl 0 (by decide) (hts _ q2006) (fun _ h9 => h9) rfl dX7_areEqual_24 ?_
    refine lv_if_ne (tgt := 43) hx hb dX7_areEqual_27 (by decide) (fun c_27 => ?_) (fun c_27 => ?_)
    rotate_left
    · exact absurd c_27 (by decide)
    refine lv_iconst (v := nI 0) hx hb dX7_areEqual_43 (by decide) ?_
    subst hQe
    exact W.zret (v := nI 0) hx hb hr rfl (fun t ht hW => ⟨⟨_, nI 1, rfl, (by simp [eqX, bI, rgB, blB, optC, h_a]), B1_at ht (hP.sub [0, 1] rfl) (hD.sub [0, 1] (by decide) rfl) trivial⟩, hS.F ht⟩) hS.2.2 dX7_areEqual_44
  · have h_a := bI_1 c_5
    obtain ⟨ja, hj_a, rfl⟩ := inB_nat (by decide) h_a
    refine lv_iload_n hx hb dX7_areEqual_8 rfl (lv_at hl 2 rfl) ?_
    refine s_i (va_runS (As := [.int b]) (rest := [.ref (o 0)]) ⟨hx, hb, hml, hown, hts⟩ (x7_isRegister Z b) (va_cwS 1 hts (lw_S q2104 q2105 q107 q2106) rfl rfl rfl (by decide +kernel) ⟨Nat.le_of_ble_eq_true rfl, Nat.le_of_ble_eq_true rfl⟩) (gP_S hG hS (fun q _ h => h.elim) trivial) rfl rfl hl.1 rfl (lv_room (Nat.le_of_ble_eq_true rfl)) dX7_areEqual_9 ⟨by first | decide | omega, by first | decide | omega⟩) ?_
    refine lv_if_eq (tgt := 19) hx hb dX7_areEqual_12 (by decide) (fun c_12 => ?_) (fun c_12 => ?_)
    · have h_b := bI_0 c_12
      refine lv_iconst (v := nI 1) hx hb dX7_areEqual_19 (by decide) ?_
      refine va_put (D := (dC, dI)) (ci := 2) (v := .int (nI 1)) (ty := .int) (C := RX7) (T := TX7) (N := 27) hx hb hts in_X7 tyX7 tyX7_ok nmX7 hown hK hP hD hS 0 rfl rfl 0 (by decide) (hts _ q2006) (fun _ h9 => h9) rfl (by decide +kernel) rfl rfl (Nat.le_of_ble_eq_true rfl) dX7_areEqual_20 (fun H locs hP hD hS => ?_)
      have hP : va_P (dC, dI) vwCl [(o 0, .inr (2, mFs o (nI 1) p0 q0 r0 mu zz)), (o 5, .inl (dA 1, 2640, .inr (.inl fA)))] H := hP
      have hD : va_D A [(o 0, .inr (2, mFs o (nI 1) p0 q0 r0 mu zz)), (o 5, .inl (dA 1, 2640, .inr (.inl fA)))] := hD
      refine lv_aload_n hx hb dX7_areEqual_23 rfl (lv_at hl 0 rfl) ?_
      refine va_get (D := (dC, dI)) (ci := 2) (v := .int (nI 1)) (C := RX7) (T := TX7) (N := 27) hx hb hts in_X7 hown hK hP 0 rfl rfl 0 (by decide) (hts _ q2006) (fun _ h9 => h9) rfl dX7_areEqual_24 ?_
      refine lv_if_ne (tgt := 43) hx hb dX7_areEqual_27 (by decide) (fun c_27 => ?_) (fun c_27 => ?_)
      rotate_left
      · exact absurd c_27 (by decide)
      refine lv_iconst (v := nI 0) hx hb dX7_areEqual_43 (by decide) ?_
      subst hQe
      exact W.zret (v := nI 0) hx hb hr rfl (fun t ht hW => ⟨⟨_, nI 1, rfl, (by simp [eqX, bI, rgB, blB, optC, h_a, h_b, rg_n (show ja < 8 by omega), nI_clamp (show ja < 2 ^ 31 by omega)]), B1_at ht (hP.sub [0, 1] rfl) (hD.sub [0, 1] (by decide) rfl) trivial⟩, hS.F ht⟩) hS.2.2 dX7_areEqual_44
    · have h_b := bI_1 c_12
      obtain ⟨jb, hj_b, rfl⟩ := inB_nat (by decide) h_b
      refine lv_iconst (v := nI 0) hx hb dX7_areEqual_15 (by decide) ?_
      refine lv_goto (tgt := 20) hx hb dX7_areEqual_16 (by decide) ?_
      refine va_put (D := (dC, dI)) (ci := 2) (v := .int (nI 0)) (ty := .int) (C := RX7) (T := TX7) (N := 27) hx hb hts in_X7 tyX7 tyX7_ok nmX7 hown hK hP hD hS 0 rfl rfl 0 (by decide) (hts _ q2006) (fun _ h9 => h9) rfl (by decide +kernel) rfl rfl (Nat.le_of_ble_eq_true rfl) dX7_areEqual_20 (fun H locs hP hD hS => ?_)
      have hP : va_P (dC, dI) vwCl [(o 0, .inr (2, mFs o (nI 0) p0 q0 r0 mu zz)), (o 5, .inl (dA 1, 2640, .inr (.inl fA)))] H := hP
      have hD : va_D A [(o 0, .inr (2, mFs o (nI 0) p0 q0 r0 mu zz)), (o 5, .inl (dA 1, 2640, .inr (.inl fA)))] := hD
      refine lv_aload_n hx hb dX7_areEqual_23 rfl (lv_at hl 0 rfl) ?_
      refine va_get (D := (dC, dI)) (ci := 2) (v := .int (nI 0)) (C := RX7) (T := TX7) (N := 27) hx hb hts in_X7 hown hK hP 0 rfl rfl 0 (by decide) (hts _ q2006) (fun _ h9 => h9) rfl dX7_areEqual_24 ?_
      refine lv_if_ne (tgt := 43) hx hb dX7_areEqual_27 (by decide) (fun c_27 => ?_) (fun c_27 => ?_)
      · exact absurd (by decide) c_27
      refine lv_aload_n hx hb dX7_areEqual_30 rfl (lv_at hl 0 rfl) ?_
      refine lv_iload_n hx hb dX7_areEqual_31 rfl (lv_at hl 1 rfl) ?_
      refine lv_iload_n hx hb dX7_areEqual_32 rfl (lv_at hl 2 rfl) ?_
      refine s_i (va_runV (As := [.int (nI ja), .int (nI jb)]) (rest := []) ⟨hx, hb, hml, hown, hts⟩ (x7_areAlike Z o (nI 0) p0 q0 r0 mu zz fA ja jb (Ms ja) (Ms jb) (by omega) (by omega) (hR ja (by omega)) (hR jb (by omega))) (cwV 2 hts (lw_V q2289 q2291 qs62 q107 q2292) rfl rfl rfl (by decide +kernel) ⟨Nat.le_of_ble_eq_true rfl, Nat.le_of_ble_eq_true rfl⟩) (gP_V (va_recv hK hP (ci := 2) (q0 := 0) rfl rfl) hG hS (fun q _ h => h.elim) (hP.sub (ws' := [(o 0, .inr (2, mFs o (nI 0) p0 q0 r0 mu zz)), (o 5, .inl (dA 1, 2640, .inr (.inl fA)))]) [0, 1] rfl)) rfl rfl hl.1 rfl (lv_room (Nat.le_of_ble_eq_true rfl)) dX7_areEqual_33 ⟨by first | decide | omega, by first | decide | omega⟩) ?_
      refine lv_if_eq (tgt := 43) hx hb dX7_areEqual_36 (by decide) (fun c_36 => ?_) (fun c_36 => ?_)
      · have hb_36 := bI_0 c_36
        refine lv_iconst (v := nI 0) hx hb dX7_areEqual_43 (by decide) ?_
        subst hQe
        exact W.zret (v := nI 0) hx hb hr rfl (fun t ht hW => ⟨⟨_, nI 0, rfl, (by simp [eqX, bI, rgB, blB, optC, h_a, h_b, hb_36, rg_n (show ja < 8 by omega), rg_n (show jb < 8 by omega), nI_clamp (show ja < 2 ^ 31 by omega), nI_clamp (show jb < 2 ^ 31 by omega)]), B1_at ht (hP.sub [0, 1] rfl) (hD.sub [0, 1] (by decide) rfl) trivial⟩, hS.F ht⟩) hS.2.2 dX7_areEqual_44
      · have hb_36 := bI_1 c_36
        refine lv_iconst (v := nI 1) hx hb dX7_areEqual_39 (by decide) ?_
        refine lv_goto (tgt := 44) hx hb dX7_areEqual_40 (by decide) ?_
        subst hQe
        exact W.zret (v := nI 1) hx hb hr rfl (fun t ht hW => ⟨⟨_, nI 0, rfl, (by simp [eqX, bI, rgB, blB, optC, h_a, h_b, hb_36, rg_n (show ja < 8 by omega), rg_n (show jb < 8 by omega), nI_clamp (show ja < 2 ^ 31 by omega), nI_clamp (show jb < 2 ^ 31 by omega)]), B1_at ht (hP.sub [0, 1] rfl) (hD.sub [0, 1] (by decide) rfl) trivial⟩, hS.F ht⟩) hS.2.2 dX7_areEqual_44
set_option maxHeartbeats 4000000 in
theorem x7_signature {l : Launch} {dC : Nat → ClassId} {dI : Nat → Nat → Nat} {dA : Nat → ClassId} {s0 : State} {b0 : Addr} (Z : Z0 l dC dI dA s0 b0) (A : Nat → Prop) (sz : Nat) (hA : ∀ q : Nat, sz ≤ q → A q) (o : Nat → Nat) (th : Int32) (p0 q0 r0 : Nat) (mu : Int64) (zz : Nat → Int32) (fA fM : Nat → Int64) (Ms : Nat → MV) (v : Int32) (hn : p0 + q0 + r0 ≤ 5) (hR : ∀ k, k < 8 → Hold fA k (Ms k)) (sR : ∀ k, k < 8 → MSm (Ms k)) : Met l yX7_signature (ws_ yX7_signature cX7_signature 2 (some .int)) ({ frames := 3, cells := 0, slots := 0, locals := 180 } : Room) (gP [.ref (o 0), .int v] s0 A (fun H => H.size = sz ∧ va_P (dC, dI) vwCl [(o 0, .inr (2, mFs o th p0 q0 r0 mu zz)), (o 5, .inl (dA 1, 2640, .inr (.inl fA)))] H ∧ va_D A [(o 0, .inr (2, mFs o th p0 q0 r0 mu zz)), (o 5, .inl (dA 1, 2640, .inr (.inl fA)))])) (va_Qi (S := Int32) (fun r u => (u, r) = sigX p0 q0 r0 v) (B1 (dC, dI) A (fun u => [(o 0, .inr (2, mFs o u p0 q0 r0 mu zz)), (o 5, .inl (dA 1, 2640, .inr (.inl fA)))]) (fun _ _ => True)) A) 0 0 A := by
  refine Met.ofW (cc := cX7_signature) (maxL := 2) (ret := (some .int)) (by decide) rfl ?_
  intro p e s m args below meth c s₁ B hml hv
  obtain ⟨hav, hG, hsz, hP, hD⟩ := hv
  have hx := B.exec
  have hb := B.bytes
  have hr := B.returns
  have hts := atoms_spec (ws := (ws_ yX7_signature cX7_signature 2 (some .int))) B.pre
  have hts : ∀ w ∈ lw_all, w.before _ s = true := fun w h => hts w (List.mem_cons_of_mem _ h)
  have hown : s.vm.findClass RX7 = some m.cls := findClass_of_methodNamed B.named
  have hlocks := B.notSynchronized
  have hK := hG.K Z
  subst hsz
  have hS : va_S A s.heap s.heap [] := va_S.rf
  have hl := lv_entry ([.ref (o 0), .int v]) (n := 2) (Nat.le_of_ble_eq_true rfl)
  rw [show entryFrame m args 2 = entryFrame m ([.ref (o 0), .int v] : List Value).toArray 2 from by rw [hav], lg_entry_eq]
  generalize (lg_sl ([.ref (o 0), .int v]) ++ List.replicate (2 - (lg_sl ([.ref (o 0), .int v])).length) Slot.unset).toArray = ls at hl ⊢
  have hl : lv_has ls 2 [(0, .ref (o 0)), (1, .int v)] := hl
  generalize hQe : MQ below _ _ s _ _ _ = Q
  change W p l e ({ frames := 3, cells := 0, slots := 0, locals := 180 } : Room) s m args below meth c s.heap [] 0 0 Q (F0 m 0 ls [])
  refine lv_aload_n hx hb dX7_signature_0 rfl (lv_at hl 0 rfl) ?_
  refine lv_iload_n hx hb dX7_signature_1 rfl (lv_at hl 1 rfl) ?_
  refine lv_iconst (v := nI 0) hx hb dX7_signature_2 (by decide) ?_
  refine lv_iconst (v := nI 3) hx hb dX7_signature_3 (by decide) ?_
  refine s_i (va_runS (As := [.int v, .int (nI 0), .int (nI 3)]) (rest := [.ref (o 0)]) ⟨hx, hb, hml, hown, hts⟩ (x7_in Z v (nI 0) (nI 3)) (va_cwS 3 hts (lw_S q2097 q2098 q107 q2099) rfl rfl rfl (by decide +kernel) ⟨Nat.le_of_ble_eq_true rfl, Nat.le_of_ble_eq_true rfl⟩) (gP_S hG hS (fun q _ h => h.elim) trivial) rfl rfl hl.1 rfl (lv_room (Nat.le_of_ble_eq_true rfl)) dX7_signature_4 ⟨by first | decide | omega, by first | decide | omega⟩) ?_
  refine lv_if_eq (tgt := 14) hx hb dX7_signature_7 (by decide) (fun c_7 => ?_) (fun c_7 => ?_)
  · have h_w := bI_0 c_7
    refine lv_iconst (v := nI 1) hx hb dX7_signature_14 (by decide) ?_
    refine va_put (D := (dC, dI)) (ci := 2) (v := .int (nI 1)) (ty := .int) (C := RX7) (T := TX7) (N := 27) hx hb hts in_X7 tyX7 tyX7_ok nmX7 hown hK hP hD hS 0 rfl rfl 0 (by decide) (hts _ q2006) (fun _ h9 => h9) rfl (by decide +kernel) rfl rfl (Nat.le_of_ble_eq_true rfl) dX7_signature_15 (fun H locs hP hD hS => ?_)
    have hP : va_P (dC, dI) vwCl [(o 0, .inr (2, mFs o (nI 1) p0 q0 r0 mu zz)), (o 5, .inl (dA 1, 2640, .inr (.inl fA)))] H := hP
    have hD : va_D A [(o 0, .inr (2, mFs o (nI 1) p0 q0 r0 mu zz)), (o 5, .inl (dA 1, 2640, .inr (.inl fA)))] := hD
    refine lv_aload_n hx hb dX7_signature_18 rfl (lv_at hl 0 rfl) ?_
    refine va_get (D := (dC, dI)) (ci := 2) (v := .int (nI 1)) (C := RX7) (T := TX7) (N := 27) hx hb hts in_X7 hown hK hP 0 rfl rfl 0 (by decide) (hts _ q2006) (fun _ h9 => h9) rfl dX7_signature_19 ?_
    refine lv_if_le (tgt := 29) hx hb dX7_signature_22 (by decide) (fun c_22 => ?_) (fun c_22 => ?_)
    · exact absurd c_22 (by decide)
    refine lv_iconst (v := nI 0) hx hb dX7_signature_25 (by decide) ?_
    refine lv_goto (tgt := 68) hx hb dX7_signature_26 (by decide) ?_
    subst hQe
    exact W.iret (v := nI 0) hx hb hr (fun t ht hW => ⟨⟨_, nI 1, rfl, (by simp [sigX, rgB, blB, optC, h_w]), B1_at ht (hP.sub [0, 1] rfl) (hD.sub [0, 1] (by decide) rfl) trivial⟩, hS.F ht⟩) hS.2.2 dX7_signature_68
  · have h_w := bI_1 c_7
    refine lv_iconst (v := nI 0) hx hb dX7_signature_10 (by decide) ?_
    refine lv_goto (tgt := 15) hx hb dX7_signature_11 (by decide) ?_
    refine va_put (D := (dC, dI)) (ci := 2) (v := .int (nI 0)) (ty := .int) (C := RX7) (T := TX7) (N := 27) hx hb hts in_X7 tyX7 tyX7_ok nmX7 hown hK hP hD hS 0 rfl rfl 0 (by decide) (hts _ q2006) (fun _ h9 => h9) rfl (by decide +kernel) rfl rfl (Nat.le_of_ble_eq_true rfl) dX7_signature_15 (fun H locs hP hD hS => ?_)
    have hP : va_P (dC, dI) vwCl [(o 0, .inr (2, mFs o (nI 0) p0 q0 r0 mu zz)), (o 5, .inl (dA 1, 2640, .inr (.inl fA)))] H := hP
    have hD : va_D A [(o 0, .inr (2, mFs o (nI 0) p0 q0 r0 mu zz)), (o 5, .inl (dA 1, 2640, .inr (.inl fA)))] := hD
    refine lv_aload_n hx hb dX7_signature_18 rfl (lv_at hl 0 rfl) ?_
    refine va_get (D := (dC, dI)) (ci := 2) (v := .int (nI 0)) (C := RX7) (T := TX7) (N := 27) hx hb hts in_X7 hown hK hP 0 rfl rfl 0 (by decide) (hts _ q2006) (fun _ h9 => h9) rfl dX7_signature_19 ?_
    refine lv_if_le (tgt := 29) hx hb dX7_signature_22 (by decide) (fun c_22 => ?_) (fun c_22 => ?_)
    rotate_left
    · exact absurd (by decide) c_22
    refine lv_iload_n hx hb dX7_signature_29 rfl (lv_at hl 1 rfl) ?_
    refine lv_if_ne (tgt := 40) hx hb dX7_signature_30 (by decide) (fun c_30 => ?_) (fun c_30 => ?_)
    · have c_30 : ¬ v = nI 0 := c_30
      refine lv_iload_n hx hb dX7_signature_40 rfl (lv_at hl 1 rfl) ?_
      refine lv_iconst (v := nI 1) hx hb dX7_signature_41 (by decide) ?_
      refine lv_icmp_ne (tgt := 52) hx hb dX7_signature_42 (by decide) (fun c_42 => ?_) (fun c_42 => ?_)
      · refine lv_iload_n hx hb dX7_signature_52 rfl (lv_at hl 1 rfl) ?_
        refine lv_iconst (v := nI 2) hx hb dX7_signature_53 (by decide) ?_
        refine lv_icmp_ne (tgt := 64) hx hb dX7_signature_54 (by decide) (fun c_54 => ?_) (fun c_54 => ?_)
        · refine lv_aload_n hx hb dX7_signature_64 rfl (lv_at hl 0 rfl) ?_
          refine s_i (va_runV (As := []) (rest := []) ⟨hx, hb, hml, hown, hts⟩ (x7_n Z o (nI 0) p0 q0 r0 mu zz) (cwV 0 hts (lw_V q2151 q2153 qs44 q107 q2154) rfl rfl rfl (by decide +kernel) ⟨Nat.le_of_ble_eq_true rfl, Nat.le_of_ble_eq_true rfl⟩) (gP_V (va_recv hK hP (ci := 2) (q0 := 0) rfl rfl) hG hS (fun q _ h => h.elim) (hP.sub (ws' := [(o 0, .inr (2, mFs o (nI 0) p0 q0 r0 mu zz))]) [0] rfl)) rfl rfl hl.1 rfl (lv_room (Nat.le_of_ble_eq_true rfl)) dX7_signature_65 ⟨by first | decide | omega, by first | decide | omega⟩) ?_
          subst hQe
          exact W.iret (v := nI (p0 + q0 + r0)) hx hb hr (fun t ht hW => ⟨⟨_, nI 0, rfl, (by simp [sigX, rgB, blB, optC, h_w, c_30, c_42, c_54]), B1_at ht (hP.sub [0, 1] rfl) (hD.sub [0, 1] (by decide) rfl) trivial⟩, hS.F ht⟩) hS.2.2 dX7_signature_68
        · subst c_54
          refine lv_aload_n hx hb dX7_signature_57 rfl (lv_at hl 0 rfl) ?_
          refine va_get (D := (dC, dI)) (ci := 2) (v := .int (nI r0)) (C := RX7) (T := TX7) (N := 27) hx hb hts in_X7 hown hK hP 0 rfl rfl 3 (by decide) (hts _ q2009) (fun _ h9 => h9) rfl dX7_signature_58 ?_
          refine lv_goto (tgt := 68) hx hb dX7_signature_61 (by decide) ?_
          subst hQe
          exact W.iret (v := nI r0) hx hb hr (fun t ht hW => ⟨⟨_, nI 0, rfl, (by simp [sigX, rgB, blB, optC, h_w, c_30, c_42, show ¬ nI 2 = nI 0 by decide, show ¬ nI 2 = nI 1 by decide]), B1_at ht (hP.sub [0, 1] rfl) (hD.sub [0, 1] (by decide) rfl) trivial⟩, hS.F ht⟩) hS.2.2 dX7_signature_68
      · subst c_42
        refine lv_aload_n hx hb dX7_signature_45 rfl (lv_at hl 0 rfl) ?_
        refine va_get (D := (dC, dI)) (ci := 2) (v := .int (nI q0)) (C := RX7) (T := TX7) (N := 27) hx hb hts in_X7 hown hK hP 0 rfl rfl 2 (by decide) (hts _ q2008) (fun _ h9 => h9) rfl dX7_signature_46 ?_
        refine lv_goto (tgt := 68) hx hb dX7_signature_49 (by decide) ?_
        subst hQe
        exact W.iret (v := nI q0) hx hb hr (fun t ht hW => ⟨⟨_, nI 0, rfl, (by simp [sigX, rgB, blB, optC, h_w, c_30, show ¬ nI 1 = nI 0 by decide]), B1_at ht (hP.sub [0, 1] rfl) (hD.sub [0, 1] (by decide) rfl) trivial⟩, hS.F ht⟩) hS.2.2 dX7_signature_68
    · have c_30 : v = nI 0 := c_30
      subst c_30
      refine lv_aload_n hx hb dX7_signature_33 rfl (lv_at hl 0 rfl) ?_
      refine va_get (D := (dC, dI)) (ci := 2) (v := .int (nI p0)) (C := RX7) (T := TX7) (N := 27) hx hb hts in_X7 hown hK hP 0 rfl rfl 1 (by decide) (hts _ q2007) (fun _ h9 => h9) rfl dX7_signature_34 ?_
      refine lv_goto (tgt := 68) hx hb dX7_signature_37 (by decide) ?_
      subst hQe
      exact W.iret (v := nI p0) hx hb hr (fun t ht hW => ⟨⟨_, nI 0, rfl, (by simp [sigX, rgB, blB, optC, h_w]), B1_at ht (hP.sub [0, 1] rfl) (hD.sub [0, 1] (by decide) rfl) trivial⟩, hS.F ht⟩) hS.2.2 dX7_signature_68
set_option maxHeartbeats 4000000 in
theorem x7_commute {l : Launch} {dC : Nat → ClassId} {dI : Nat → Nat → Nat} {dA : Nat → ClassId} {s0 : State} {b0 : Addr} (Z : Z0 l dC dI dA s0 b0) (A : Nat → Prop) (sz : Nat) (hA : ∀ q : Nat, sz ≤ q → A q) (o : Nat → Nat) (th : Int32) (p0 q0 r0 : Nat) (mu : Int64) (zz : Nat → Int32) (fA fM : Nat → Int64) (Ms : Nat → MV) (a : Int32) (b : Int32) (hn : p0 + q0 + r0 ≤ 5) (hR : ∀ k, k < 8 → Hold fA k (Ms k)) (sR : ∀ k, k < 8 → MSm (Ms k)) : Met l yX7_commute (ws_ yX7_commute cX7_commute 3 (some .boolean)) ({ frames := 6, cells := 0, slots := 0, locals := 360 } : Room) (gP [.ref (o 0), .int a, .int b] s0 A (fun H => H.size = sz ∧ va_P (dC, dI) vwCl [(o 0, .inr (2, mFs o th p0 q0 r0 mu zz)), (o 5, .inl (dA 1, 2640, .inr (.inl fA))), (o 6, .inl (dA 1, 32, .inr (.inl fM)))] H ∧ va_D A [(o 0, .inr (2, mFs o th p0 q0 r0 mu zz)), (o 5, .inl (dA 1, 2640, .inr (.inl fA))), (o 6, .inl (dA 1, 32, .inr (.inl fM)))])) (va_Qi (S := (Nat → Int64) × (Nat → Int64) × Int64 × Int32) (fun r u => (u.2.2.2, r) = comX p0 q0 r0 Ms a b ∧ Kp fA u.1 outH) (B1 (dC, dI) A (fun u => mC dA o u.2.2.2 p0 q0 r0 u.2.2.1 zz u.1 u.2.1) (fun _ _ => True)) A) 0 0 A := by
  refine Met.ofW (cc := cX7_commute) (maxL := 3) (ret := (some .boolean)) (by decide) rfl ?_
  intro p e s m args below meth c s₁ B hml hv
  obtain ⟨hav, hG, hsz, hP, hD⟩ := hv
  have hx := B.exec
  have hb := B.bytes
  have hr := B.returns
  have hts := atoms_spec (ws := (ws_ yX7_commute cX7_commute 3 (some .boolean))) B.pre
  have hts : ∀ w ∈ lw_all, w.before _ s = true := fun w h => hts w (List.mem_cons_of_mem _ h)
  have hown : s.vm.findClass RX7 = some m.cls := findClass_of_methodNamed B.named
  have hlocks := B.notSynchronized
  have hK := hG.K Z
  subst hsz
  have hS : va_S A s.heap s.heap [] := va_S.rf
  have hl := lv_entry ([.ref (o 0), .int a, .int b]) (n := 3) (Nat.le_of_ble_eq_true rfl)
  rw [show entryFrame m args 3 = entryFrame m ([.ref (o 0), .int a, .int b] : List Value).toArray 3 from by rw [hav], lg_entry_eq]
  generalize (lg_sl ([.ref (o 0), .int a, .int b]) ++ List.replicate (3 - (lg_sl ([.ref (o 0), .int a, .int b])).length) Slot.unset).toArray = ls at hl ⊢
  have hl : lv_has ls 3 [(0, .ref (o 0)), (1, .int a), (2, .int b)] := hl
  generalize hQe : MQ below _ _ s _ _ _ = Q
  change W p l e ({ frames := 6, cells := 0, slots := 0, locals := 360 } : Room) s m args below meth c s.heap [] 0 0 Q (F0 m 0 ls [])
  refine lv_aload_n hx hb dX7_commute_0 rfl (lv_at hl 0 rfl) ?_
  refine lv_iload_n hx hb dX7_commute_1 rfl (lv_at hl 1 rfl) ?_
  refine s_i (va_runS (As := [.int a]) (rest := [.ref (o 0)]) ⟨hx, hb, hml, hown, hts⟩ (x7_isRegister Z a) (va_cwS 1 hts (lw_S q2104 q2105 q107 q2106) rfl rfl rfl (by decide +kernel) ⟨Nat.le_of_ble_eq_true rfl, Nat.le_of_ble_eq_true rfl⟩) (gP_S hG hS (fun q _ h => h.elim) trivial) rfl rfl hl.1 rfl (lv_room (Nat.le_of_ble_eq_true rfl)) dX7_commute_2 ⟨by first | decide | omega, by first | decide | omega⟩) ?_
  refine lv_if_eq (tgt := 19) hx hb dX7_commute_5 (by decide) (fun c_5 => ?_) (fun c_5 => ?_)
  · have h_a := bI_0 c_5
    refine lv_iconst (v := nI 1) hx hb dX7_commute_19 (by decide) ?_
    refine va_put (D := (dC, dI)) (ci := 2) (v := .int (nI 1)) (ty := .int) (C := RX7) (T := TX7) (N := 27) hx hb hts in_X7 tyX7 tyX7_ok nmX7 hown hK hP hD hS 0 rfl rfl 0 (by decide) (hts _ q2006) (fun _ h9 => h9) rfl (by decide +kernel) rfl rfl (Nat.le_of_ble_eq_true rfl) dX7_commute_20 (fun H locs hP hD hS => ?_)
    have hP : va_P (dC, dI) vwCl [(o 0, .inr (2, mFs o (nI 1) p0 q0 r0 mu zz)), (o 5, .inl (dA 1, 2640, .inr (.inl fA))), (o 6, .inl (dA 1, 32, .inr (.inl fM)))] H := hP
    have hD : va_D A [(o 0, .inr (2, mFs o (nI 1) p0 q0 r0 mu zz)), (o 5, .inl (dA 1, 2640, .inr (.inl fA))), (o 6, .inl (dA 1, 32, .inr (.inl fM)))] := hD
    refine lv_aload_n hx hb dX7_commute_23 rfl (lv_at hl 0 rfl) ?_
    refine va_get (D := (dC, dI)) (ci := 2) (v := .int (nI 1)) (C := RX7) (T := TX7) (N := 27) hx hb hts in_X7 hown hK hP 0 rfl rfl 0 (by decide) (hts _ q2006) (fun _ h9 => h9) rfl dX7_commute_24 ?_
    refine lv_if_le (tgt := 32) hx hb dX7_commute_27 (by decide) (fun c_27 => ?_) (fun c_27 => ?_)
    · exact absurd c_27 (by decide)
    refine lv_iconst (v := nI 0) hx hb dX7_commute_30 (by decide) ?_
    subst hQe
    exact W.zret (v := nI 0) hx hb hr rfl (fun t ht hW => ⟨⟨_, (fA, fM, mu, nI 1), rfl, ⟨(by simp [comX, bI, rgB, blB, optC, h_a]), (fun k9 hk9 i9 hi9 => rfl)⟩, B1_at ht (hP.sub [0, 1, 2] rfl) (hD.sub [0, 1, 2] (by decide) rfl) trivial⟩, hS.F ht⟩) hS.2.2 dX7_commute_31
  · have h_a := bI_1 c_5
    obtain ⟨ja, hj_a, rfl⟩ := inB_nat (by decide) h_a
    refine lv_iload_n hx hb dX7_commute_8 rfl (lv_at hl 2 rfl) ?_
    refine s_i (va_runS (As := [.int b]) (rest := [.ref (o 0)]) ⟨hx, hb, hml, hown, hts⟩ (x7_isRegister Z b) (va_cwS 1 hts (lw_S q2104 q2105 q107 q2106) rfl rfl rfl (by decide +kernel) ⟨Nat.le_of_ble_eq_true rfl, Nat.le_of_ble_eq_true rfl⟩) (gP_S hG hS (fun q _ h => h.elim) trivial) rfl rfl hl.1 rfl (lv_room (Nat.le_of_ble_eq_true rfl)) dX7_commute_9 ⟨by first | decide | omega, by first | decide | omega⟩) ?_
    refine lv_if_eq (tgt := 19) hx hb dX7_commute_12 (by decide) (fun c_12 => ?_) (fun c_12 => ?_)
    · have h_b := bI_0 c_12
      refine lv_iconst (v := nI 1) hx hb dX7_commute_19 (by decide) ?_
      refine va_put (D := (dC, dI)) (ci := 2) (v := .int (nI 1)) (ty := .int) (C := RX7) (T := TX7) (N := 27) hx hb hts in_X7 tyX7 tyX7_ok nmX7 hown hK hP hD hS 0 rfl rfl 0 (by decide) (hts _ q2006) (fun _ h9 => h9) rfl (by decide +kernel) rfl rfl (Nat.le_of_ble_eq_true rfl) dX7_commute_20 (fun H locs hP hD hS => ?_)
      have hP : va_P (dC, dI) vwCl [(o 0, .inr (2, mFs o (nI 1) p0 q0 r0 mu zz)), (o 5, .inl (dA 1, 2640, .inr (.inl fA))), (o 6, .inl (dA 1, 32, .inr (.inl fM)))] H := hP
      have hD : va_D A [(o 0, .inr (2, mFs o (nI 1) p0 q0 r0 mu zz)), (o 5, .inl (dA 1, 2640, .inr (.inl fA))), (o 6, .inl (dA 1, 32, .inr (.inl fM)))] := hD
      refine lv_aload_n hx hb dX7_commute_23 rfl (lv_at hl 0 rfl) ?_
      refine va_get (D := (dC, dI)) (ci := 2) (v := .int (nI 1)) (C := RX7) (T := TX7) (N := 27) hx hb hts in_X7 hown hK hP 0 rfl rfl 0 (by decide) (hts _ q2006) (fun _ h9 => h9) rfl dX7_commute_24 ?_
      refine lv_if_le (tgt := 32) hx hb dX7_commute_27 (by decide) (fun c_27 => ?_) (fun c_27 => ?_)
      · exact absurd c_27 (by decide)
      refine lv_iconst (v := nI 0) hx hb dX7_commute_30 (by decide) ?_
      subst hQe
      exact W.zret (v := nI 0) hx hb hr rfl (fun t ht hW => ⟨⟨_, (fA, fM, mu, nI 1), rfl, ⟨(by simp [comX, bI, rgB, blB, optC, h_a, h_b, rg_n (show ja < 8 by omega), nI_clamp (show ja < 2 ^ 31 by omega)]), (fun k9 hk9 i9 hi9 => rfl)⟩, B1_at ht (hP.sub [0, 1, 2] rfl) (hD.sub [0, 1, 2] (by decide) rfl) trivial⟩, hS.F ht⟩) hS.2.2 dX7_commute_31
    · have h_b := bI_1 c_12
      obtain ⟨jb, hj_b, rfl⟩ := inB_nat (by decide) h_b
      refine lv_iconst (v := nI 0) hx hb dX7_commute_15 (by decide) ?_
      refine lv_goto (tgt := 20) hx hb dX7_commute_16 (by decide) ?_
      refine va_put (D := (dC, dI)) (ci := 2) (v := .int (nI 0)) (ty := .int) (C := RX7) (T := TX7) (N := 27) hx hb hts in_X7 tyX7 tyX7_ok nmX7 hown hK hP hD hS 0 rfl rfl 0 (by decide) (hts _ q2006) (fun _ h9 => h9) rfl (by decide +kernel) rfl rfl (Nat.le_of_ble_eq_true rfl) dX7_commute_20 (fun H locs hP hD hS => ?_)
      have hP : va_P (dC, dI) vwCl [(o 0, .inr (2, mFs o (nI 0) p0 q0 r0 mu zz)), (o 5, .inl (dA 1, 2640, .inr (.inl fA))), (o 6, .inl (dA 1, 32, .inr (.inl fM)))] H := hP
      have hD : va_D A [(o 0, .inr (2, mFs o (nI 0) p0 q0 r0 mu zz)), (o 5, .inl (dA 1, 2640, .inr (.inl fA))), (o 6, .inl (dA 1, 32, .inr (.inl fM)))] := hD
      refine lv_aload_n hx hb dX7_commute_23 rfl (lv_at hl 0 rfl) ?_
      refine va_get (D := (dC, dI)) (ci := 2) (v := .int (nI 0)) (C := RX7) (T := TX7) (N := 27) hx hb hts in_X7 hown hK hP 0 rfl rfl 0 (by decide) (hts _ q2006) (fun _ h9 => h9) rfl dX7_commute_24 ?_
      refine lv_if_le (tgt := 32) hx hb dX7_commute_27 (by decide) (fun c_27 => ?_) (fun c_27 => ?_)
      rotate_left
      · exact absurd (by decide) c_27
      refine lv_aload_n hx hb dX7_commute_32 rfl (lv_at hl 0 rfl) ?_
      refine lv_aload_n hx hb dX7_commute_33 rfl (lv_at hl 0 rfl) ?_
      refine lv_iconst (v := nI 2) hx hb dX7_commute_34 (by decide) ?_
      refine lv_iload_n hx hb dX7_commute_35 rfl (lv_at hl 1 rfl) ?_
      refine lv_iload_n hx hb dX7_commute_36 rfl (lv_at hl 2 rfl) ?_
      refine lv_bipush (v := nI 25) hx hb dX7_commute_37 (by decide) ?_
      have hF9 := va_free (wc := [(o 0, .inr (2, mFs o (nI 0) p0 q0 r0 mu zz)), (o 5, .inl (dA 1, 2640, .inr (.inl fA))), (o 6, .inl (dA 1, 32, .inr (.inl fM)))]) hD hS (fun q h => hA q h) [0, 1, 2] rfl
      refine c_i (wr := []) (va_runV (As := [.int (nI 2), .int (nI ja), .int (nI jb), .int (nI 25)]) (rest := [.ref (o 0)]) ⟨hx, hb, hml, hown, hts⟩ (x7_multiplies Z (va_A [(o 0, .inr (2, mFs o (nI 0) p0 q0 r0 mu zz)), (o 5, .inl (dA 1, 2640, .inr (.inl fA))), (o 6, .inl (dA 1, 32, .inr (.inl fM)))] H.size) H.size (fun q h => Or.inr h) o (nI 0) p0 q0 r0 mu zz fA fM 2 ja jb 25 (Ms ja) (Ms jb) hn (by omega) (by omega) (by omega) (by omega) (by omega) (hR ja (by omega)) (hR jb (by omega)) (sR ja (by omega)) (sR jb (by omega))) (cwV 4 hts (lw_V q2168 q2170 qs46 q107 q2171) rfl rfl rfl (by decide +kernel) ⟨Nat.le_of_ble_eq_true rfl, Nat.le_of_ble_eq_true rfl⟩) (gP_V (va_recv hK hP (ci := 2) (q0 := 0) rfl rfl) hG hS (fun q _ h => hF9 q h) ⟨rfl, (hP.sub (ws' := [(o 0, .inr (2, mFs o (nI 0) p0 q0 r0 mu zz)), (o 5, .inl (dA 1, 2640, .inr (.inl fA))), (o 6, .inl (dA 1, 32, .inr (.inl fM)))]) [0, 1, 2] rfl), (hD.sub (ws' := [(o 0, .inr (2, mFs o (nI 0) p0 q0 r0 mu zz)), (o 5, .inl (dA 1, 2640, .inr (.inl fA))), (o 6, .inl (dA 1, 32, .inr (.inl fM)))]) [0, 1, 2] (by decide) rfl).self⟩) rfl rfl hl.1 rfl (lv_room (Nat.le_of_ble_eq_true rfl)) dX7_commute_39 ⟨by first | decide | omega, by first | decide | omega⟩) hP hD hS hA [0, 1, 2] [] rfl rfl (by decide) (by decide) (fun r9 u9 H locs hq hX hz hk hP hD hS => ?_)
      obtain ⟨fA_1, fM_2, mu_3⟩ := u9
      obtain ⟨r_4, rfl⟩ : ∃ z, z = r9 := ⟨_, rfl⟩
      have hq_5 := hq
      try dsimp only at hq_5
      have hP : va_P (dC, dI) vwCl [(o 0, .inr (2, mFs o (nI 0) p0 q0 r0 mu_3 zz)), (o 5, .inl (dA 1, 2640, .inr (.inl fA_1))), (o 6, .inl (dA 1, 32, .inr (.inl fM_2)))] H := hP
      have hD : va_D A [(o 0, .inr (2, mFs o (nI 0) p0 q0 r0 mu_3 zz)), (o 5, .inl (dA 1, 2640, .inr (.inl fA_1))), (o 6, .inl (dA 1, 32, .inr (.inl fM_2)))] := hD
      rcases hq_5.cases with ⟨P_6, e_6, rfl, hH_6, hS_6⟩ | ⟨e_6, rfl, hE_6⟩
      · have sm_7 : MSm P_6 := mulS_sm (sR ja (by omega)) (sR jb (by omega)) e_6
        have hh_8 := hS_6.hold (j := ja) (by omega) (hR ja (by omega))
        have hh_9 := hS_6.hold (j := jb) (by omega) (hR jb (by omega))
        refine lv_if_eq (tgt := 61) hx hb dX7_commute_42 (by decide) (fun c_42 => ?_) (fun c_42 => ?_)
        · exact absurd c_42 (by decide)
        refine lv_aload_n hx hb dX7_commute_45 rfl (lv_at hl 0 rfl) ?_
        refine lv_iconst (v := nI 2) hx hb dX7_commute_46 (by decide) ?_
        refine lv_iload_n hx hb dX7_commute_47 rfl (lv_at hl 2 rfl) ?_
        refine lv_iload_n hx hb dX7_commute_48 rfl (lv_at hl 1 rfl) ?_
        refine lv_bipush (v := nI 26) hx hb dX7_commute_49 (by decide) ?_
        have hF9 := va_free (wc := [(o 0, .inr (2, mFs o (nI 0) p0 q0 r0 mu_3 zz)), (o 5, .inl (dA 1, 2640, .inr (.inl fA_1))), (o 6, .inl (dA 1, 32, .inr (.inl fM_2)))]) hD hS (fun q h => hA q h) [0, 1, 2] rfl
        refine c_i (wr := []) (va_runV (As := [.int (nI 2), .int (nI jb), .int (nI ja), .int (nI 26)]) (rest := [.ref (o 0)]) ⟨hx, hb, hml, hown, hts⟩ (x7_multiplies Z (va_A [(o 0, .inr (2, mFs o (nI 0) p0 q0 r0 mu_3 zz)), (o 5, .inl (dA 1, 2640, .inr (.inl fA_1))), (o 6, .inl (dA 1, 32, .inr (.inl fM_2)))] H.size) H.size (fun q h => Or.inr h) o (nI 0) p0 q0 r0 mu_3 zz fA_1 fM_2 2 jb ja 26 (Ms jb) (Ms ja) hn (by omega) (by omega) (by omega) (by omega) (by omega) hh_9 hh_8 (sR jb (by omega)) (sR ja (by omega))) (cwV 4 hts (lw_V q2168 q2170 qs46 q107 q2171) rfl rfl rfl (by decide +kernel) ⟨Nat.le_of_ble_eq_true rfl, Nat.le_of_ble_eq_true rfl⟩) (gP_V (va_recv hK hP (ci := 2) (q0 := 0) rfl rfl) hG hS (fun q _ h => hF9 q h) ⟨rfl, (hP.sub (ws' := [(o 0, .inr (2, mFs o (nI 0) p0 q0 r0 mu_3 zz)), (o 5, .inl (dA 1, 2640, .inr (.inl fA_1))), (o 6, .inl (dA 1, 32, .inr (.inl fM_2)))]) [0, 1, 2] rfl), (hD.sub (ws' := [(o 0, .inr (2, mFs o (nI 0) p0 q0 r0 mu_3 zz)), (o 5, .inl (dA 1, 2640, .inr (.inl fA_1))), (o 6, .inl (dA 1, 32, .inr (.inl fM_2)))]) [0, 1, 2] (by decide) rfl).self⟩) rfl rfl hl.1 rfl (lv_room (Nat.le_of_ble_eq_true rfl)) dX7_commute_51 ⟨by first | decide | omega, by first | decide | omega⟩) hP hD hS hA [0, 1, 2] [] rfl rfl (by decide) (by decide) (fun r9 u9 H locs hq hX hz hk hP hD hS => ?_)
        obtain ⟨fA_10, fM_11, mu_12⟩ := u9
        obtain ⟨r_13, rfl⟩ : ∃ z, z = r9 := ⟨_, rfl⟩
        have hq_14 := hq
        try dsimp only at hq_14
        have hP : va_P (dC, dI) vwCl [(o 0, .inr (2, mFs o (nI 0) p0 q0 r0 mu_12 zz)), (o 5, .inl (dA 1, 2640, .inr (.inl fA_10))), (o 6, .inl (dA 1, 32, .inr (.inl fM_11)))] H := hP
        have hD : va_D A [(o 0, .inr (2, mFs o (nI 0) p0 q0 r0 mu_12 zz)), (o 5, .inl (dA 1, 2640, .inr (.inl fA_10))), (o 6, .inl (dA 1, 32, .inr (.inl fM_11)))] := hD
        rcases hq_14.cases with ⟨P_15, e_15, rfl, hH_15, hS_15⟩ | ⟨e_15, rfl, hE_15⟩
        · have sm_16 : MSm P_15 := mulS_sm (sR jb (by omega)) (sR ja (by omega)) e_15
          have hh_17 := hS_15.hold (j := ja) (by omega) hh_8
          have hh_18 := hS_15.hold (j := jb) (by omega) hh_9
          have hh_19 := hS_15.hold (j := 25) (by omega) hH_6
          refine lv_if_eq (tgt := 61) hx hb dX7_commute_54 (by decide) (fun c_54 => ?_) (fun c_54 => ?_)
          · exact absurd c_54 (by decide)
          refine lv_iconst (v := nI 0) hx hb dX7_commute_57 (by decide) ?_
          refine lv_goto (tgt := 62) hx hb dX7_commute_58 (by decide) ?_
          refine va_put (D := (dC, dI)) (ci := 2) (v := .int (nI 0)) (ty := .int) (C := RX7) (T := TX7) (N := 27) hx hb hts in_X7 tyX7 tyX7_ok nmX7 hown hK hP hD hS 0 rfl rfl 0 (by decide) (hts _ q2006) (fun _ h9 => h9) rfl (by decide +kernel) rfl rfl (Nat.le_of_ble_eq_true rfl) dX7_commute_62 (fun H locs hP hD hS => ?_)
          have hP : va_P (dC, dI) vwCl [(o 0, .inr (2, mFs o (nI 0) p0 q0 r0 mu_12 zz)), (o 5, .inl (dA 1, 2640, .inr (.inl fA_10))), (o 6, .inl (dA 1, 32, .inr (.inl fM_11)))] H := hP
          have hD : va_D A [(o 0, .inr (2, mFs o (nI 0) p0 q0 r0 mu_12 zz)), (o 5, .inl (dA 1, 2640, .inr (.inl fA_10))), (o 6, .inl (dA 1, 32, .inr (.inl fM_11)))] := hD
          refine lv_aload_n hx hb dX7_commute_65 rfl (lv_at hl 0 rfl) ?_
          refine va_get (D := (dC, dI)) (ci := 2) (v := .int (nI 0)) (C := RX7) (T := TX7) (N := 27) hx hb hts in_X7 hown hK hP 0 rfl rfl 0 (by decide) (hts _ q2006) (fun _ h9 => h9) rfl dX7_commute_66 ?_
          refine lv_if_ne (tgt := 87) hx hb dX7_commute_69 (by decide) (fun c_69 => ?_) (fun c_69 => ?_)
          · exact absurd (by decide) c_69
          refine lv_aload_n hx hb dX7_commute_72 rfl (lv_at hl 0 rfl) ?_
          refine lv_bipush (v := nI 25) hx hb dX7_commute_73 (by decide) ?_
          refine lv_bipush (v := nI 26) hx hb dX7_commute_75 (by decide) ?_
          refine s_i (va_runV (As := [.int (nI 25), .int (nI 26)]) (rest := []) ⟨hx, hb, hml, hown, hts⟩ (x7_areAlike Z o (nI 0) p0 q0 r0 mu_12 zz fA_10 25 26 P_6 P_15 (by omega) (by omega) hh_19 hH_15) (cwV 2 hts (lw_V q2289 q2291 qs62 q107 q2292) rfl rfl rfl (by decide +kernel) ⟨Nat.le_of_ble_eq_true rfl, Nat.le_of_ble_eq_true rfl⟩) (gP_V (va_recv hK hP (ci := 2) (q0 := 0) rfl rfl) hG hS (fun q _ h => h.elim) (hP.sub (ws' := [(o 0, .inr (2, mFs o (nI 0) p0 q0 r0 mu_12 zz)), (o 5, .inl (dA 1, 2640, .inr (.inl fA_10)))]) [0, 1] rfl)) rfl rfl hl.1 rfl (lv_room (Nat.le_of_ble_eq_true rfl)) dX7_commute_77 ⟨by first | decide | omega, by first | decide | omega⟩) ?_
          refine lv_if_eq (tgt := 87) hx hb dX7_commute_80 (by decide) (fun c_80 => ?_) (fun c_80 => ?_)
          · have hb_80 := bI_0 c_80
            refine lv_iconst (v := nI 0) hx hb dX7_commute_87 (by decide) ?_
            subst hQe
            exact W.zret (v := nI 0) hx hb hr rfl (fun t ht hW => ⟨⟨_, (fA_10, fM_11, mu_12, nI 0), rfl, ⟨(by simp [comX, bI, rgB, blB, optC, h_a, h_b, e_6, e_15, hb_80, rg_n (show ja < 8 by omega), rg_n (show jb < 8 by omega), nI_clamp (show ja < 2 ^ 31 by omega), nI_clamp (show jb < 2 ^ 31 by omega)]), (fun k9 hk9 i9 hi9 => by (try dsimp only [outH] at hk9); show fA_10 (33 * k9 + i9) = fA (33 * k9 + i9); rw [hS_15 _ (by omega), hS_6 _ (by omega)])⟩, B1_at ht (hP.sub [0, 1, 2] rfl) (hD.sub [0, 1, 2] (by decide) rfl) trivial⟩, hS.F ht⟩) hS.2.2 dX7_commute_88
          · have hb_80 := bI_1 c_80
            refine lv_iconst (v := nI 1) hx hb dX7_commute_83 (by decide) ?_
            refine lv_goto (tgt := 88) hx hb dX7_commute_84 (by decide) ?_
            subst hQe
            exact W.zret (v := nI 1) hx hb hr rfl (fun t ht hW => ⟨⟨_, (fA_10, fM_11, mu_12, nI 0), rfl, ⟨(by simp [comX, bI, rgB, blB, optC, h_a, h_b, e_6, e_15, hb_80, rg_n (show ja < 8 by omega), rg_n (show jb < 8 by omega), nI_clamp (show ja < 2 ^ 31 by omega), nI_clamp (show jb < 2 ^ 31 by omega)]), (fun k9 hk9 i9 hi9 => by (try dsimp only [outH] at hk9); show fA_10 (33 * k9 + i9) = fA (33 * k9 + i9); rw [hS_15 _ (by omega), hS_6 _ (by omega)])⟩, B1_at ht (hP.sub [0, 1, 2] rfl) (hD.sub [0, 1, 2] (by decide) rfl) trivial⟩, hS.F ht⟩) hS.2.2 dX7_commute_88
        · have hh_20 : Hold fA_10 ja (Ms ja) := by rw [hE_15]; exact hh_8
          have hh_21 : Hold fA_10 jb (Ms jb) := by rw [hE_15]; exact hh_9
          have hh_22 : Hold fA_10 25 P_6 := by rw [hE_15]; exact hH_6
          refine lv_if_eq (tgt := 61) hx hb dX7_commute_54 (by decide) (fun c_54 => ?_) (fun c_54 => ?_)
          rotate_left
          · exact absurd (by decide) c_54
          refine lv_iconst (v := nI 2) hx hb dX7_commute_61 (by decide) ?_
          refine va_put (D := (dC, dI)) (ci := 2) (v := .int (nI 2)) (ty := .int) (C := RX7) (T := TX7) (N := 27) hx hb hts in_X7 tyX7 tyX7_ok nmX7 hown hK hP hD hS 0 rfl rfl 0 (by decide) (hts _ q2006) (fun _ h9 => h9) rfl (by decide +kernel) rfl rfl (Nat.le_of_ble_eq_true rfl) dX7_commute_62 (fun H locs hP hD hS => ?_)
          have hP : va_P (dC, dI) vwCl [(o 0, .inr (2, mFs o (nI 2) p0 q0 r0 mu_12 zz)), (o 5, .inl (dA 1, 2640, .inr (.inl fA_10))), (o 6, .inl (dA 1, 32, .inr (.inl fM_11)))] H := hP
          have hD : va_D A [(o 0, .inr (2, mFs o (nI 2) p0 q0 r0 mu_12 zz)), (o 5, .inl (dA 1, 2640, .inr (.inl fA_10))), (o 6, .inl (dA 1, 32, .inr (.inl fM_11)))] := hD
          refine lv_aload_n hx hb dX7_commute_65 rfl (lv_at hl 0 rfl) ?_
          refine va_get (D := (dC, dI)) (ci := 2) (v := .int (nI 2)) (C := RX7) (T := TX7) (N := 27) hx hb hts in_X7 hown hK hP 0 rfl rfl 0 (by decide) (hts _ q2006) (fun _ h9 => h9) rfl dX7_commute_66 ?_
          refine lv_if_ne (tgt := 87) hx hb dX7_commute_69 (by decide) (fun c_69 => ?_) (fun c_69 => ?_)
          rotate_left
          · exact absurd c_69 (by decide)
          refine lv_iconst (v := nI 0) hx hb dX7_commute_87 (by decide) ?_
          subst hQe
          exact W.zret (v := nI 0) hx hb hr rfl (fun t ht hW => ⟨⟨_, (fA_10, fM_11, mu_12, nI 2), rfl, ⟨(by simp [comX, bI, rgB, blB, optC, h_a, h_b, e_6, e_15, rg_n (show ja < 8 by omega), rg_n (show jb < 8 by omega), nI_clamp (show ja < 2 ^ 31 by omega), nI_clamp (show jb < 2 ^ 31 by omega)]), (fun k9 hk9 i9 hi9 => by (try dsimp only [outH] at hk9); show fA_10 (33 * k9 + i9) = fA (33 * k9 + i9); rw [hE_15, hS_6 _ (by omega)])⟩, B1_at ht (hP.sub [0, 1, 2] rfl) (hD.sub [0, 1, 2] (by decide) rfl) trivial⟩, hS.F ht⟩) hS.2.2 dX7_commute_88
      · have hh_23 : Hold fA_1 ja (Ms ja) := by rw [hE_6]; exact (hR ja (by omega))
        have hh_24 : Hold fA_1 jb (Ms jb) := by rw [hE_6]; exact (hR jb (by omega))
        refine lv_if_eq (tgt := 61) hx hb dX7_commute_42 (by decide) (fun c_42 => ?_) (fun c_42 => ?_)
        rotate_left
        · exact absurd (by decide) c_42
        refine lv_iconst (v := nI 2) hx hb dX7_commute_61 (by decide) ?_
        refine va_put (D := (dC, dI)) (ci := 2) (v := .int (nI 2)) (ty := .int) (C := RX7) (T := TX7) (N := 27) hx hb hts in_X7 tyX7 tyX7_ok nmX7 hown hK hP hD hS 0 rfl rfl 0 (by decide) (hts _ q2006) (fun _ h9 => h9) rfl (by decide +kernel) rfl rfl (Nat.le_of_ble_eq_true rfl) dX7_commute_62 (fun H locs hP hD hS => ?_)
        have hP : va_P (dC, dI) vwCl [(o 0, .inr (2, mFs o (nI 2) p0 q0 r0 mu_3 zz)), (o 5, .inl (dA 1, 2640, .inr (.inl fA_1))), (o 6, .inl (dA 1, 32, .inr (.inl fM_2)))] H := hP
        have hD : va_D A [(o 0, .inr (2, mFs o (nI 2) p0 q0 r0 mu_3 zz)), (o 5, .inl (dA 1, 2640, .inr (.inl fA_1))), (o 6, .inl (dA 1, 32, .inr (.inl fM_2)))] := hD
        refine lv_aload_n hx hb dX7_commute_65 rfl (lv_at hl 0 rfl) ?_
        refine va_get (D := (dC, dI)) (ci := 2) (v := .int (nI 2)) (C := RX7) (T := TX7) (N := 27) hx hb hts in_X7 hown hK hP 0 rfl rfl 0 (by decide) (hts _ q2006) (fun _ h9 => h9) rfl dX7_commute_66 ?_
        refine lv_if_ne (tgt := 87) hx hb dX7_commute_69 (by decide) (fun c_69 => ?_) (fun c_69 => ?_)
        rotate_left
        · exact absurd c_69 (by decide)
        refine lv_iconst (v := nI 0) hx hb dX7_commute_87 (by decide) ?_
        subst hQe
        exact W.zret (v := nI 0) hx hb hr rfl (fun t ht hW => ⟨⟨_, (fA_1, fM_2, mu_3, nI 2), rfl, ⟨(by simp [comX, bI, rgB, blB, optC, h_a, h_b, e_6, rg_n (show ja < 8 by omega), rg_n (show jb < 8 by omega), nI_clamp (show ja < 2 ^ 31 by omega), nI_clamp (show jb < 2 ^ 31 by omega)]), (fun k9 hk9 i9 hi9 => by (try dsimp only [outH] at hk9); show fA_1 (33 * k9 + i9) = fA (33 * k9 + i9); rw [hE_6])⟩, B1_at ht (hP.sub [0, 1, 2] rfl) (hD.sub [0, 1, 2] (by decide) rfl) trivial⟩, hS.F ht⟩) hS.2.2 dX7_commute_88
set_option maxHeartbeats 4000000 in
theorem x7_vectorsIn {l : Launch} {dC : Nat → ClassId} {dI : Nat → Nat → Nat} {dA : Nat → ClassId} {s0 : State} {b0 : Addr} (Z : Z0 l dC dI dA s0 b0) (A : Nat → Prop) (sz : Nat) (hA : ∀ q : Nat, sz ≤ q → A q) (o : Nat → Nat) (th : Int32) (p0 q0 r0 : Nat) (mu : Int64) (zz : Nat → Int32) (fA fM : Nat → Int64) (Ms : Nat → MV) (a : Int32) (hn : p0 + q0 + r0 ≤ 5) (hR : ∀ k, k < 8 → Hold fA k (Ms k)) (sR : ∀ k, k < 8 → MSm (Ms k)) : Met l yX7_vectorsIn (ws_ yX7_vectorsIn cX7_vectorsIn 4 (some .int)) ({ frames := 4, cells := 0, slots := 0, locals := 240 } : Room) (gP [.ref (o 0), .int a] s0 A (fun H => H.size = sz ∧ va_P (dC, dI) vwCl [(o 0, .inr (2, mFs o th p0 q0 r0 mu zz)), (o 5, .inl (dA 1, 2640, .inr (.inl fA)))] H ∧ va_D A [(o 0, .inr (2, mFs o th p0 q0 r0 mu zz)), (o 5, .inl (dA 1, 2640, .inr (.inl fA)))])) (va_Qi (S := Int32) (fun r u => (u, r) = vinX p0 q0 r0 Ms a) (B1 (dC, dI) A (fun u => [(o 0, .inr (2, mFs o u p0 q0 r0 mu zz)), (o 5, .inl (dA 1, 2640, .inr (.inl fA)))]) (fun _ _ => True)) A) 0 0 A := by
  refine Met.ofW (cc := cX7_vectorsIn) (maxL := 4) (ret := (some .int)) (by decide) rfl ?_
  intro p e s m args below meth c s₁ B hml hv
  obtain ⟨hav, hG, hsz, hP, hD⟩ := hv
  have hx := B.exec
  have hb := B.bytes
  have hr := B.returns
  have hts := atoms_spec (ws := (ws_ yX7_vectorsIn cX7_vectorsIn 4 (some .int))) B.pre
  have hts : ∀ w ∈ lw_all, w.before _ s = true := fun w h => hts w (List.mem_cons_of_mem _ h)
  have hown : s.vm.findClass RX7 = some m.cls := findClass_of_methodNamed B.named
  have hlocks := B.notSynchronized
  have hK := hG.K Z
  subst hsz
  have hS : va_S A s.heap s.heap [] := va_S.rf
  have hl := lv_entry ([.ref (o 0), .int a]) (n := 4) (Nat.le_of_ble_eq_true rfl)
  rw [show entryFrame m args 4 = entryFrame m ([.ref (o 0), .int a] : List Value).toArray 4 from by rw [hav], lg_entry_eq]
  generalize (lg_sl ([.ref (o 0), .int a]) ++ List.replicate (4 - (lg_sl ([.ref (o 0), .int a])).length) Slot.unset).toArray = ls at hl ⊢
  have hl : lv_has ls 4 [(0, .ref (o 0)), (1, .int a)] := hl
  generalize hQe : MQ below _ _ s _ _ _ = Q
  change W p l e ({ frames := 4, cells := 0, slots := 0, locals := 240 } : Room) s m args below meth c s.heap [] 0 0 Q (F0 m 0 ls [])
  refine lv_aload_n hx hb dX7_vectorsIn_0 rfl (lv_at hl 0 rfl) ?_
  refine lv_iload_n hx hb dX7_vectorsIn_1 rfl (lv_at hl 1 rfl) ?_
  refine s_i (va_runS (As := [.int a]) (rest := [.ref (o 0)]) ⟨hx, hb, hml, hown, hts⟩ (x7_isRegister Z a) (va_cwS 1 hts (lw_S q2104 q2105 q107 q2106) rfl rfl rfl (by decide +kernel) ⟨Nat.le_of_ble_eq_true rfl, Nat.le_of_ble_eq_true rfl⟩) (gP_S hG hS (fun q _ h => h.elim) trivial) rfl rfl hl.1 rfl (lv_room (Nat.le_of_ble_eq_true rfl)) dX7_vectorsIn_2 ⟨by first | decide | omega, by first | decide | omega⟩) ?_
  refine lv_if_eq (tgt := 12) hx hb dX7_vectorsIn_5 (by decide) (fun c_5 => ?_) (fun c_5 => ?_)
  · have h_a := bI_0 c_5
    refine lv_iconst (v := nI 1) hx hb dX7_vectorsIn_12 (by decide) ?_
    refine va_put (D := (dC, dI)) (ci := 2) (v := .int (nI 1)) (ty := .int) (C := RX7) (T := TX7) (N := 27) hx hb hts in_X7 tyX7 tyX7_ok nmX7 hown hK hP hD hS 0 rfl rfl 0 (by decide) (hts _ q2006) (fun _ h9 => h9) rfl (by decide +kernel) rfl rfl (Nat.le_of_ble_eq_true rfl) dX7_vectorsIn_13 (fun H locs hP hD hS => ?_)
    have hP : va_P (dC, dI) vwCl [(o 0, .inr (2, mFs o (nI 1) p0 q0 r0 mu zz)), (o 5, .inl (dA 1, 2640, .inr (.inl fA)))] H := hP
    have hD : va_D A [(o 0, .inr (2, mFs o (nI 1) p0 q0 r0 mu zz)), (o 5, .inl (dA 1, 2640, .inr (.inl fA)))] := hD
    refine lv_aload_n hx hb dX7_vectorsIn_16 rfl (lv_at hl 0 rfl) ?_
    refine s_i (va_runV (As := []) (rest := []) ⟨hx, hb, hml, hown, hts⟩ (x7_full Z o (nI 1) p0 q0 r0 mu zz (by omega)) (cwV 0 hts (lw_V q2147 q2149 qs43 q107 q2150) rfl rfl rfl (by decide +kernel) ⟨Nat.le_of_ble_eq_true rfl, Nat.le_of_ble_eq_true rfl⟩) (gP_V (va_recv hK hP (ci := 2) (q0 := 0) rfl rfl) hG hS (fun q _ h => h.elim) (hP.sub (ws' := [(o 0, .inr (2, mFs o (nI 1) p0 q0 r0 mu zz))]) [0] rfl)) rfl rfl hl.1 rfl (lv_room (Nat.le_of_ble_eq_true rfl)) dX7_vectorsIn_17 ⟨by first | decide | omega, by first | decide | omega⟩) ?_
    refine lv_istore_n (lv' := [(2, .int (nI (2 ^ (p0 + q0 + r0) - 1))), (0, .ref (o 0)), (1, .int a)]) hx hb dX7_vectorsIn_20 rfl hl (by decide) rfl (fun ls hl => ?_)
    refine lv_iconst (v := nI 0) hx hb dX7_vectorsIn_21 (by decide) ?_
    refine lv_istore_n (lv' := [(3, .int (nI 0)), (2, .int (nI (2 ^ (p0 + q0 + r0) - 1))), (0, .ref (o 0)), (1, .int a)]) hx hb dX7_vectorsIn_22 rfl hl (by decide) rfl (fun ls hl => ?_)
    have h5 := pow5 hn
    refine lv_iload_n hx hb dX7_vectorsIn_23 rfl (lv_at hl 0 rfl) ?_
    refine lv_aload_n hx hb dX7_vectorsIn_24 rfl (lv_at hl 2 rfl) ?_
    refine s_i (va_runV (As := []) (rest := [.int (nI 0)]) ⟨hx, hb, hml, hown, hts⟩ (x7_full Z o (nI 1) p0 q0 r0 mu zz (by omega)) (cwV 0 hts (lw_V q2147 q2149 qs43 q107 q2150) rfl rfl rfl (by decide +kernel) ⟨Nat.le_of_ble_eq_true rfl, Nat.le_of_ble_eq_true rfl⟩) (gP_V (va_recv hK hP (ci := 2) (q0 := 0) rfl rfl) hG hS (fun q _ h => h.elim) (hP.sub (ws' := [(o 0, .inr (2, mFs o (nI 1) p0 q0 r0 mu zz))]) [0] rfl)) rfl rfl hl.1 rfl (lv_room (Nat.le_of_ble_eq_true rfl)) dX7_vectorsIn_25 ⟨by first | decide | omega, by first | decide | omega⟩) ?_
    refine lv_icmp_gt (tgt := 63) hx hb dX7_vectorsIn_28 (by decide) (fun c_28 => ?_) (fun c_28 => ?_)
    · have c_28 : (2 ^ (p0 + q0 + r0) - 1) < 0 := (nI_ltI (a := (2 ^ (p0 + q0 + r0) - 1)) (b := 0) (by omega) (by omega)).mp c_28
      refine lv_aload_n hx hb dX7_vectorsIn_63 rfl (lv_at hl 2 rfl) ?_
      refine va_get (D := (dC, dI)) (ci := 2) (v := .int (nI 1)) (C := RX7) (T := TX7) (N := 27) hx hb hts in_X7 hown hK hP 0 rfl rfl 0 (by decide) (hts _ q2006) (fun _ h9 => h9) rfl dX7_vectorsIn_64 ?_
      refine lv_if_le (tgt := 74) hx hb dX7_vectorsIn_67 (by decide) (fun c_67 => ?_) (fun c_67 => ?_)
      · exact absurd c_67 (by decide)
      refine lv_iconst (v := nI 0) hx hb dX7_vectorsIn_70 (by decide) ?_
      refine lv_goto (tgt := 75) hx hb dX7_vectorsIn_71 (by decide) ?_
      subst hQe
      exact W.iret (v := nI 0) hx hb hr (fun t ht hW => ⟨⟨_, nI 1, rfl, (by simp [vinX, rgB, blB, optC, h_a]), B1_at ht (hP.sub [0, 1] rfl) (hD.sub [0, 1] (by decide) rfl) trivial⟩, hS.F ht⟩) hS.2.2 dX7_vectorsIn_75
    · have c_28 : ¬ (2 ^ (p0 + q0 + r0) - 1) < 0 := fun h => c_28 ((nI_ltI (a := (2 ^ (p0 + q0 + r0) - 1)) (b := 0) (by omega) (by omega)).mpr h)
      refine lv_aload_n hx hb dX7_vectorsIn_31 rfl (lv_at hl 2 rfl) ?_
      refine va_get (D := (dC, dI)) (ci := 2) (v := .int (nI 1)) (C := RX7) (T := TX7) (N := 27) hx hb hts in_X7 hown hK hP 0 rfl rfl 0 (by decide) (hts _ q2006) (fun _ h9 => h9) rfl dX7_vectorsIn_32 ?_
      refine lv_if_ne (tgt := 63) hx hb dX7_vectorsIn_35 (by decide) (fun c_35 => ?_) (fun c_35 => ?_)
      rotate_left
      · exact absurd c_35 (by decide)
      refine lv_aload_n hx hb dX7_vectorsIn_63 rfl (lv_at hl 2 rfl) ?_
      refine va_get (D := (dC, dI)) (ci := 2) (v := .int (nI 1)) (C := RX7) (T := TX7) (N := 27) hx hb hts in_X7 hown hK hP 0 rfl rfl 0 (by decide) (hts _ q2006) (fun _ h9 => h9) rfl dX7_vectorsIn_64 ?_
      refine lv_if_le (tgt := 74) hx hb dX7_vectorsIn_67 (by decide) (fun c_67 => ?_) (fun c_67 => ?_)
      · exact absurd c_67 (by decide)
      refine lv_iconst (v := nI 0) hx hb dX7_vectorsIn_70 (by decide) ?_
      refine lv_goto (tgt := 75) hx hb dX7_vectorsIn_71 (by decide) ?_
      subst hQe
      exact W.iret (v := nI 0) hx hb hr (fun t ht hW => ⟨⟨_, nI 1, rfl, (by simp [vinX, rgB, blB, optC, h_a]), B1_at ht (hP.sub [0, 1] rfl) (hD.sub [0, 1] (by decide) rfl) trivial⟩, hS.F ht⟩) hS.2.2 dX7_vectorsIn_75
  · have h_a := bI_1 c_5
    obtain ⟨ja, hj_a, rfl⟩ := inB_nat (by decide) h_a
    refine lv_iconst (v := nI 0) hx hb dX7_vectorsIn_8 (by decide) ?_
    refine lv_goto (tgt := 13) hx hb dX7_vectorsIn_9 (by decide) ?_
    refine va_put (D := (dC, dI)) (ci := 2) (v := .int (nI 0)) (ty := .int) (C := RX7) (T := TX7) (N := 27) hx hb hts in_X7 tyX7 tyX7_ok nmX7 hown hK hP hD hS 0 rfl rfl 0 (by decide) (hts _ q2006) (fun _ h9 => h9) rfl (by decide +kernel) rfl rfl (Nat.le_of_ble_eq_true rfl) dX7_vectorsIn_13 (fun H locs hP hD hS => ?_)
    have hP : va_P (dC, dI) vwCl [(o 0, .inr (2, mFs o (nI 0) p0 q0 r0 mu zz)), (o 5, .inl (dA 1, 2640, .inr (.inl fA)))] H := hP
    have hD : va_D A [(o 0, .inr (2, mFs o (nI 0) p0 q0 r0 mu zz)), (o 5, .inl (dA 1, 2640, .inr (.inl fA)))] := hD
    refine lv_aload_n hx hb dX7_vectorsIn_16 rfl (lv_at hl 0 rfl) ?_
    refine s_i (va_runV (As := []) (rest := []) ⟨hx, hb, hml, hown, hts⟩ (x7_full Z o (nI 0) p0 q0 r0 mu zz (by omega)) (cwV 0 hts (lw_V q2147 q2149 qs43 q107 q2150) rfl rfl rfl (by decide +kernel) ⟨Nat.le_of_ble_eq_true rfl, Nat.le_of_ble_eq_true rfl⟩) (gP_V (va_recv hK hP (ci := 2) (q0 := 0) rfl rfl) hG hS (fun q _ h => h.elim) (hP.sub (ws' := [(o 0, .inr (2, mFs o (nI 0) p0 q0 r0 mu zz))]) [0] rfl)) rfl rfl hl.1 rfl (lv_room (Nat.le_of_ble_eq_true rfl)) dX7_vectorsIn_17 ⟨by first | decide | omega, by first | decide | omega⟩) ?_
    refine lv_istore_n (lv' := [(2, .int (nI (2 ^ (p0 + q0 + r0) - 1))), (0, .ref (o 0)), (1, .int (nI ja))]) hx hb dX7_vectorsIn_20 rfl hl (by decide) rfl (fun ls hl => ?_)
    refine lv_iconst (v := nI 0) hx hb dX7_vectorsIn_21 (by decide) ?_
    refine lv_istore_n (lv' := [(3, .int (nI 0)), (2, .int (nI (2 ^ (p0 + q0 + r0) - 1))), (0, .ref (o 0)), (1, .int (nI ja))]) hx hb dX7_vectorsIn_22 rfl hl (by decide) rfl (fun ls hl => ?_)
    have h5 := pow5 hn
    have loop_1 : ∀ (n9_1 : Nat) (k : Nat) (H : Heap) (locs : List Loc) (ls : Array Slot), 33 - k < n9_1 → (k ≤ 2 ^ (p0 + q0 + r0)) → va_P (dC, dI) vwCl [(o 0, .inr (2, mFs o (nI 0) p0 q0 r0 mu zz)), (o 5, .inl (dA 1, 2640, .inr (.inl fA)))] H → va_D A [(o 0, .inr (2, mFs o (nI 0) p0 q0 r0 mu zz)), (o 5, .inl (dA 1, 2640, .inr (.inl fA)))] → va_S A s.heap H locs → lv_has ls 4 [(0, .ref (o 0)), (1, .int (nI ja)), (2, .int (nI (vinN (Ms ja) (2 ^ (p0 + q0 + r0) - 1) k))), (3, .int (nI k))] → W p l e ({ frames := 4, cells := 0, slots := 0, locals := 240 } : Room) s m args below meth c H locs 0 0 Q (F0 m 23 ls []) := by
      intro n9_1
      induction n9_1 with
      | zero => intro k H locs ls hm_1; exact absurd hm_1 (Nat.not_lt_zero _)
      | succ n9_1 ih_1 =>
        intro k H locs ls hm_1 hk9 hP hD hS hl
        have hv9 := vinN_le (Ms ja) (2 ^ (p0 + q0 + r0) - 1) k
        refine lv_iload_n hx hb dX7_vectorsIn_23 rfl (lv_at hl 3 rfl) ?_
        refine lv_aload_n hx hb dX7_vectorsIn_24 rfl (lv_at hl 0 rfl) ?_
        refine s_i (va_runV (As := []) (rest := [.int (nI k)]) ⟨hx, hb, hml, hown, hts⟩ (x7_full Z o (nI 0) p0 q0 r0 mu zz (by omega)) (cwV 0 hts (lw_V q2147 q2149 qs43 q107 q2150) rfl rfl rfl (by decide +kernel) ⟨Nat.le_of_ble_eq_true rfl, Nat.le_of_ble_eq_true rfl⟩) (gP_V (va_recv hK hP (ci := 2) (q0 := 0) rfl rfl) hG hS (fun q _ h => h.elim) (hP.sub (ws' := [(o 0, .inr (2, mFs o (nI 0) p0 q0 r0 mu zz))]) [0] rfl)) rfl rfl hl.1 rfl (lv_room (Nat.le_of_ble_eq_true rfl)) dX7_vectorsIn_25 ⟨by first | decide | omega, by first | decide | omega⟩) ?_
        refine lv_icmp_gt (tgt := 63) hx hb dX7_vectorsIn_28 (by decide) (fun c_28 => ?_) (fun c_28 => ?_)
        · have c_28 : (2 ^ (p0 + q0 + r0) - 1) < k := (nI_ltI (a := (2 ^ (p0 + q0 + r0) - 1)) (b := k) (by omega) (by omega)).mp c_28
          obtain rfl : k = 2 ^ (p0 + q0 + r0) := by omega
          refine lv_aload_n hx hb dX7_vectorsIn_63 rfl (lv_at hl 0 rfl) ?_
          refine va_get (D := (dC, dI)) (ci := 2) (v := .int (nI 0)) (C := RX7) (T := TX7) (N := 27) hx hb hts in_X7 hown hK hP 0 rfl rfl 0 (by decide) (hts _ q2006) (fun _ h9 => h9) rfl dX7_vectorsIn_64 ?_
          refine lv_if_le (tgt := 74) hx hb dX7_vectorsIn_67 (by decide) (fun c_67 => ?_) (fun c_67 => ?_)
          rotate_left
          · exact absurd (by decide) c_67
          refine lv_iload_n hx hb dX7_vectorsIn_74 rfl (lv_at hl 2 rfl) ?_
          subst hQe
          exact W.iret (v := nI (vinN (Ms ja) (2 ^ (p0 + q0 + r0) - 1) (2 ^ (p0 + q0 + r0)))) hx hb hr (fun t ht hW => ⟨⟨_, nI 0, rfl, (by simp [vinX, rgB, blB, optC, h_a, rg_n (show ja < 8 by omega), nI_clamp (show ja < 2 ^ 31 by omega)]), B1_at ht (hP.sub [0, 1] rfl) (hD.sub [0, 1] (by decide) rfl) trivial⟩, hS.F ht⟩) hS.2.2 dX7_vectorsIn_75
        · have c_28 : ¬ (2 ^ (p0 + q0 + r0) - 1) < k := fun h => c_28 ((nI_ltI (a := (2 ^ (p0 + q0 + r0) - 1)) (b := k) (by omega) (by omega)).mpr h)
          refine lv_aload_n hx hb dX7_vectorsIn_31 rfl (lv_at hl 0 rfl) ?_
          refine va_get (D := (dC, dI)) (ci := 2) (v := .int (nI 0)) (C := RX7) (T := TX7) (N := 27) hx hb hts in_X7 hown hK hP 0 rfl rfl 0 (by decide) (hts _ q2006) (fun _ h9 => h9) rfl dX7_vectorsIn_32 ?_
          refine lv_if_ne (tgt := 63) hx hb dX7_vectorsIn_35 (by decide) (fun c_35 => ?_) (fun c_35 => ?_)
          · exact absurd (by decide) c_35
          refine lv_iload_n hx hb dX7_vectorsIn_38 rfl (lv_at hl 2 rfl) ?_
          refine lv_aload_n hx hb dX7_vectorsIn_39 rfl (lv_at hl 0 rfl) ?_
          refine lv_iload_n hx hb dX7_vectorsIn_40 rfl (lv_at hl 1 rfl) ?_
          refine lv_iload_n hx hb dX7_vectorsIn_41 rfl (lv_at hl 3 rfl) ?_
          refine s_l (va_runV (As := [.int (nI ja), .int (nI k)]) (rest := [.int (nI (vinN (Ms ja) (2 ^ (p0 + q0 + r0) - 1) k))]) ⟨hx, hb, hml, hown, hts⟩ (x7_of Z o (nI 0) p0 q0 r0 mu zz fA ja k (by omega)) (cwV 2 hts (lw_V q2119 q2121 qs38 q107 q2122) rfl rfl rfl (by decide +kernel) ⟨Nat.le_of_ble_eq_true rfl, Nat.le_of_ble_eq_true rfl⟩) (gP_V (va_recv hK hP (ci := 2) (q0 := 0) rfl rfl) hG hS (fun q _ h => h.elim) (hP.sub (ws' := [(o 0, .inr (2, mFs o (nI 0) p0 q0 r0 mu zz)), (o 5, .inl (dA 1, 2640, .inr (.inl fA)))]) [0, 1] rfl)) rfl rfl hl.1 rfl (lv_room (Nat.le_of_ble_eq_true rfl)) dX7_vectorsIn_42 ⟨by first | decide | omega, by first | decide | omega⟩) ?_
          refine e_l (y := (Ms ja) (k + 1)) (hold_at (hR ja (by omega)) (i := k + 1) (by omega) (by omega)) ?_
          refine lv_lconst (v := 0) hx hb dX7_vectorsIn_45 rfl ?_
          refine W.lcmp hx hb dX7_vectorsIn_46 ?_
          refine lv_if_eq (tgt := 54) hx hb dX7_vectorsIn_47 (by decide) (fun c_47 => ?_) (fun c_47 => ?_)
          · have c_47 : ((Ms ja) (k + 1)) = 0 := (lg_cmp_eq _ _).mp c_47
            refine lv_iload_n hx hb dX7_vectorsIn_54 rfl (lv_at hl 2 rfl) ?_
            refine lv_iand hx hb dX7_vectorsIn_55 ?_
            refine e_i (y := nI ((vinN (Ms ja) (2 ^ (p0 + q0 + r0) - 1) k) &&& (vinN (Ms ja) (2 ^ (p0 + q0 + r0) - 1) k))) (n_and _ _) ?_
            refine e_i (y := nI (vinN (Ms ja) (2 ^ (p0 + q0 + r0) - 1) (k + 1))) (n_eq (Eq.symm (show (if Ms ja (k + 1) = 0 then vinN (Ms ja) (2 ^ (p0 + q0 + r0) - 1) k else vinN (Ms ja) (2 ^ (p0 + q0 + r0) - 1) k &&& k) = _ from by rw [if_pos c_47, Nat.and_self]))) ?_
            refine lv_istore_n (lv' := [(2, .int (nI (vinN (Ms ja) (2 ^ (p0 + q0 + r0) - 1) (k + 1)))), (0, .ref (o 0)), (1, .int (nI ja)), (3, .int (nI k))]) hx hb dX7_vectorsIn_56 rfl hl (by decide) rfl (fun ls hl => ?_)
            refine lv_iinc (v := nI (k + 1)) (lv' := [(3, .int (nI (k + 1))), (2, .int (nI (vinN (Ms ja) (2 ^ (p0 + q0 + r0) - 1) (k + 1)))), (0, .ref (o 0)), (1, .int (nI ja))]) hx hb dX7_vectorsIn_57 hl (k := 3) rfl (by exact nI_add _ 1) (by decide) rfl (fun ls hl => ?_)
            refine lv_goto (tgt := 23) hx hb dX7_vectorsIn_60 (by decide) ?_
            exact ih_1 (k + 1) H locs ls (by omega) (by omega) (hP.sub [0, 1] rfl) (hD.sub [0, 1] (by decide) rfl) hS (lv_sub hl [2, 3, 1, 0] rfl)
          · have c_47 : ¬ ((Ms ja) (k + 1)) = 0 := fun h => c_47 ((lg_cmp_eq _ _).mpr h)
            refine lv_iload_n hx hb dX7_vectorsIn_50 rfl (lv_at hl 3 rfl) ?_
            refine lv_goto (tgt := 55) hx hb dX7_vectorsIn_51 (by decide) ?_
            refine lv_iand hx hb dX7_vectorsIn_55 ?_
            refine e_i (y := nI ((vinN (Ms ja) (2 ^ (p0 + q0 + r0) - 1) k) &&& k)) (n_and _ _) ?_
            refine e_i (y := nI (vinN (Ms ja) (2 ^ (p0 + q0 + r0) - 1) (k + 1))) (n_eq (Eq.symm (show (if Ms ja (k + 1) = 0 then vinN (Ms ja) (2 ^ (p0 + q0 + r0) - 1) k else vinN (Ms ja) (2 ^ (p0 + q0 + r0) - 1) k &&& k) = _ from by rw [if_neg c_47]))) ?_
            refine lv_istore_n (lv' := [(2, .int (nI (vinN (Ms ja) (2 ^ (p0 + q0 + r0) - 1) (k + 1)))), (0, .ref (o 0)), (1, .int (nI ja)), (3, .int (nI k))]) hx hb dX7_vectorsIn_56 rfl hl (by decide) rfl (fun ls hl => ?_)
            refine lv_iinc (v := nI (k + 1)) (lv' := [(3, .int (nI (k + 1))), (2, .int (nI (vinN (Ms ja) (2 ^ (p0 + q0 + r0) - 1) (k + 1)))), (0, .ref (o 0)), (1, .int (nI ja))]) hx hb dX7_vectorsIn_57 hl (k := 3) rfl (by exact nI_add _ 1) (by decide) rfl (fun ls hl => ?_)
            refine lv_goto (tgt := 23) hx hb dX7_vectorsIn_60 (by decide) ?_
            exact ih_1 (k + 1) H locs ls (by omega) (by omega) (hP.sub [0, 1] rfl) (hD.sub [0, 1] (by decide) rfl) hS (lv_sub hl [2, 3, 1, 0] rfl)
    exact loop_1 _ 0 H locs ls (Nat.lt_succ_self _) (by omega) hP hD hS (lv_sub hl [2, 3, 1, 0] rfl)
set_option maxHeartbeats 4000000 in
theorem x7_squareKind {l : Launch} {dC : Nat → ClassId} {dI : Nat → Nat → Nat} {dA : Nat → ClassId} {s0 : State} {b0 : Addr} (Z : Z0 l dC dI dA s0 b0) (A : Nat → Prop) (sz : Nat) (hA : ∀ q : Nat, sz ≤ q → A q) (o : Nat → Nat) (th : Int32) (p0 q0 r0 : Nat) (mu : Int64) (zz : Nat → Int32) (fA fM : Nat → Int64) (Ms : Nat → MV) (a : Int32) (hn : p0 + q0 + r0 ≤ 5) (hR : ∀ k, k < 8 → Hold fA k (Ms k)) (sR : ∀ k, k < 8 → MSm (Ms k)) : Met l yX7_squareKind (ws_ yX7_squareKind cX7_squareKind 4 (some .int)) ({ frames := 6, cells := 0, slots := 0, locals := 360 } : Room) (gP [.ref (o 0), .int a] s0 A (fun H => H.size = sz ∧ va_P (dC, dI) vwCl [(o 0, .inr (2, mFs o th p0 q0 r0 mu zz)), (o 5, .inl (dA 1, 2640, .inr (.inl fA))), (o 6, .inl (dA 1, 32, .inr (.inl fM)))] H ∧ va_D A [(o 0, .inr (2, mFs o th p0 q0 r0 mu zz)), (o 5, .inl (dA 1, 2640, .inr (.inl fA))), (o 6, .inl (dA 1, 32, .inr (.inl fM)))])) (va_Qi (S := (Nat → Int64) × (Nat → Int64) × Int64 × Int32) (fun r u => (u.2.2.2, r) = sqkX p0 q0 r0 Ms a ∧ Kp fA u.1 outH) (B1 (dC, dI) A (fun u => mC dA o u.2.2.2 p0 q0 r0 u.2.2.1 zz u.1 u.2.1) (fun _ _ => True)) A) 0 0 A := by
  refine Met.ofW (cc := cX7_squareKind) (maxL := 4) (ret := (some .int)) (by decide) rfl ?_
  intro p e s m args below meth c s₁ B hml hv
  obtain ⟨hav, hG, hsz, hP, hD⟩ := hv
  have hx := B.exec
  have hb := B.bytes
  have hr := B.returns
  have hts := atoms_spec (ws := (ws_ yX7_squareKind cX7_squareKind 4 (some .int))) B.pre
  have hts : ∀ w ∈ lw_all, w.before _ s = true := fun w h => hts w (List.mem_cons_of_mem _ h)
  have hown : s.vm.findClass RX7 = some m.cls := findClass_of_methodNamed B.named
  have hlocks := B.notSynchronized
  have hK := hG.K Z
  subst hsz
  have hS : va_S A s.heap s.heap [] := va_S.rf
  have hl := lv_entry ([.ref (o 0), .int a]) (n := 4) (Nat.le_of_ble_eq_true rfl)
  rw [show entryFrame m args 4 = entryFrame m ([.ref (o 0), .int a] : List Value).toArray 4 from by rw [hav], lg_entry_eq]
  generalize (lg_sl ([.ref (o 0), .int a]) ++ List.replicate (4 - (lg_sl ([.ref (o 0), .int a])).length) Slot.unset).toArray = ls at hl ⊢
  have hl : lv_has ls 4 [(0, .ref (o 0)), (1, .int a)] := hl
  generalize hQe : MQ below _ _ s _ _ _ = Q
  change W p l e ({ frames := 6, cells := 0, slots := 0, locals := 360 } : Room) s m args below meth c s.heap [] 0 0 Q (F0 m 0 ls [])
  refine lv_iload_n hx hb dX7_squareKind_0 rfl (lv_at hl 1 rfl) ?_
  refine s_i (va_runS (As := [.int a]) (rest := []) ⟨hx, hb, hml, hown, hts⟩ (x7_isRegister Z a) (va_cwS 1 hts (lw_S q2104 q2105 q107 q2106) rfl rfl rfl (by decide +kernel) ⟨Nat.le_of_ble_eq_true rfl, Nat.le_of_ble_eq_true rfl⟩) (gP_S hG hS (fun q _ h => h.elim) trivial) rfl rfl hl.1 rfl (lv_room (Nat.le_of_ble_eq_true rfl)) dX7_squareKind_1 ⟨by first | decide | omega, by first | decide | omega⟩) ?_
  refine lv_if_ne (tgt := 13) hx hb dX7_squareKind_4 (by decide) (fun c_4 => ?_) (fun c_4 => ?_)
  · have h_a := bI_1 c_4
    obtain ⟨ja, hj_a, rfl⟩ := inB_nat (by decide) h_a
    refine lv_aload_n hx hb dX7_squareKind_13 rfl (lv_at hl 0 rfl) ?_
    refine lv_iconst (v := nI 2) hx hb dX7_squareKind_14 (by decide) ?_
    refine lv_iload_n hx hb dX7_squareKind_15 rfl (lv_at hl 1 rfl) ?_
    refine lv_iload_n hx hb dX7_squareKind_16 rfl (lv_at hl 1 rfl) ?_
    refine lv_bipush (v := nI 25) hx hb dX7_squareKind_17 (by decide) ?_
    have hF9 := va_free (wc := [(o 0, .inr (2, mFs o th p0 q0 r0 mu zz)), (o 5, .inl (dA 1, 2640, .inr (.inl fA))), (o 6, .inl (dA 1, 32, .inr (.inl fM)))]) hD hS (fun q h => hA q h) [0, 1, 2] rfl
    refine c_i (wr := []) (va_runV (As := [.int (nI 2), .int (nI ja), .int (nI ja), .int (nI 25)]) (rest := []) ⟨hx, hb, hml, hown, hts⟩ (x7_multiplies Z (va_A [(o 0, .inr (2, mFs o th p0 q0 r0 mu zz)), (o 5, .inl (dA 1, 2640, .inr (.inl fA))), (o 6, .inl (dA 1, 32, .inr (.inl fM)))] s.heap.size) s.heap.size (fun q h => Or.inr h) o th p0 q0 r0 mu zz fA fM 2 ja ja 25 (Ms ja) (Ms ja) hn (by omega) (by omega) (by omega) (by omega) (by omega) (hR ja (by omega)) (hR ja (by omega)) (sR ja (by omega)) (sR ja (by omega))) (cwV 4 hts (lw_V q2168 q2170 qs46 q107 q2171) rfl rfl rfl (by decide +kernel) ⟨Nat.le_of_ble_eq_true rfl, Nat.le_of_ble_eq_true rfl⟩) (gP_V (va_recv hK hP (ci := 2) (q0 := 0) rfl rfl) hG hS (fun q _ h => hF9 q h) ⟨rfl, (hP.sub (ws' := [(o 0, .inr (2, mFs o th p0 q0 r0 mu zz)), (o 5, .inl (dA 1, 2640, .inr (.inl fA))), (o 6, .inl (dA 1, 32, .inr (.inl fM)))]) [0, 1, 2] rfl), (hD.sub (ws' := [(o 0, .inr (2, mFs o th p0 q0 r0 mu zz)), (o 5, .inl (dA 1, 2640, .inr (.inl fA))), (o 6, .inl (dA 1, 32, .inr (.inl fM)))]) [0, 1, 2] (by decide) rfl).self⟩) rfl rfl hl.1 rfl (lv_room (Nat.le_of_ble_eq_true rfl)) dX7_squareKind_19 ⟨by first | decide | omega, by first | decide | omega⟩) hP hD hS hA [0, 1, 2] [] rfl rfl (by decide) (by decide) (fun r9 u9 H locs hq hX hz hk hP hD hS => ?_)
    obtain ⟨fA_1, fM_2, mu_3⟩ := u9
    obtain ⟨r_4, rfl⟩ : ∃ z, z = r9 := ⟨_, rfl⟩
    have hq_5 := hq
    try dsimp only at hq_5
    have hP : va_P (dC, dI) vwCl [(o 0, .inr (2, mFs o th p0 q0 r0 mu_3 zz)), (o 5, .inl (dA 1, 2640, .inr (.inl fA_1))), (o 6, .inl (dA 1, 32, .inr (.inl fM_2)))] H := hP
    have hD : va_D A [(o 0, .inr (2, mFs o th p0 q0 r0 mu_3 zz)), (o 5, .inl (dA 1, 2640, .inr (.inl fA_1))), (o 6, .inl (dA 1, 32, .inr (.inl fM_2)))] := hD
    rcases hq_5.cases with ⟨P_6, e_6, rfl, hH_6, hS_6⟩ | ⟨e_6, rfl, hE_6⟩
    · have sm_7 : MSm P_6 := mulS_sm (sR ja (by omega)) (sR ja (by omega)) e_6
      have hh_8 := hS_6.hold (j := ja) (by omega) (hR ja (by omega))
      refine lv_if_ne (tgt := 31) hx hb dX7_squareKind_22 (by decide) (fun c_22 => ?_) (fun c_22 => ?_)
      rotate_left
      · exact absurd c_22 (by decide)
      refine lv_aload_n hx hb dX7_squareKind_31 rfl (lv_at hl 0 rfl) ?_
      refine lv_iconst (v := nI 0) hx hb dX7_squareKind_32 (by decide) ?_
      refine va_put (D := (dC, dI)) (ci := 2) (v := .int (nI 0)) (ty := .int) (C := RX7) (T := TX7) (N := 27) hx hb hts in_X7 tyX7 tyX7_ok nmX7 hown hK hP hD hS 0 rfl rfl 0 (by decide) (hts _ q2006) (fun _ h9 => h9) rfl (by decide +kernel) rfl rfl (Nat.le_of_ble_eq_true rfl) dX7_squareKind_33 (fun H locs hP hD hS => ?_)
      have hP : va_P (dC, dI) vwCl [(o 0, .inr (2, mFs o (nI 0) p0 q0 r0 mu_3 zz)), (o 5, .inl (dA 1, 2640, .inr (.inl fA_1))), (o 6, .inl (dA 1, 32, .inr (.inl fM_2)))] H := hP
      have hD : va_D A [(o 0, .inr (2, mFs o (nI 0) p0 q0 r0 mu_3 zz)), (o 5, .inl (dA 1, 2640, .inr (.inl fA_1))), (o 6, .inl (dA 1, 32, .inr (.inl fM_2)))] := hD
      refine lv_aload_n hx hb dX7_squareKind_36 rfl (lv_at hl 0 rfl) ?_
      refine lv_bipush (v := nI 25) hx hb dX7_squareKind_37 (by decide) ?_
      refine s_i (va_runV (As := [.int (nI 25)]) (rest := []) ⟨hx, hb, hml, hown, hts⟩ (x7_gradesOf Z o (nI 0) p0 q0 r0 mu_3 zz fA_1 25 P_6 (by omega) hH_6) (cwV 1 hts (lw_V q2273 q2275 qs59 q107 q2276) rfl rfl rfl (by decide +kernel) ⟨Nat.le_of_ble_eq_true rfl, Nat.le_of_ble_eq_true rfl⟩) (gP_V (va_recv hK hP (ci := 2) (q0 := 0) rfl rfl) hG hS (fun q _ h => h.elim) (hP.sub (ws' := [(o 0, .inr (2, mFs o (nI 0) p0 q0 r0 mu_3 zz)), (o 5, .inl (dA 1, 2640, .inr (.inl fA_1)))]) [0, 1] rfl)) rfl rfl hl.1 rfl (lv_room (Nat.le_of_ble_eq_true rfl)) dX7_squareKind_39 ⟨by first | decide | omega, by first | decide | omega⟩) ?_
      refine lv_bipush (v := (-2)) hx hb dX7_squareKind_42 (by decide) ?_
      refine lv_iand hx hb dX7_squareKind_44 ?_
      have hg9 := grN_lt P_6 32 (by decide)
      refine e_i (y := nI (grS P_6 &&& 62)) (sca_and hg9) ?_
      have hg8 : grS P_6 &&& 62 < 64 := Nat.lt_of_le_of_lt Nat.and_le_left hg9
      refine lv_if_eq (tgt := 50) hx hb dX7_squareKind_45 (by decide) (fun c_45 => ?_) (fun c_45 => ?_)
      · have c_45 : (grS P_6 &&& 62) = 0 := (nI_eq (a := (grS P_6 &&& 62)) (b := 0) (by omega) (by omega)).mp c_45
        refine lv_aload_n hx hb dX7_squareKind_50 rfl (lv_at hl 0 rfl) ?_
        refine lv_bipush (v := nI 25) hx hb dX7_squareKind_51 (by decide) ?_
        refine lv_iconst (v := nI 0) hx hb dX7_squareKind_53 (by decide) ?_
        refine s_l (va_runV (As := [.int (nI 25), .int (nI 0)]) (rest := []) ⟨hx, hb, hml, hown, hts⟩ (x7_of Z o (nI 0) p0 q0 r0 mu_3 zz fA_1 25 0 (by omega)) (cwV 2 hts (lw_V q2119 q2121 qs38 q107 q2122) rfl rfl rfl (by decide +kernel) ⟨Nat.le_of_ble_eq_true rfl, Nat.le_of_ble_eq_true rfl⟩) (gP_V (va_recv hK hP (ci := 2) (q0 := 0) rfl rfl) hG hS (fun q _ h => h.elim) (hP.sub (ws' := [(o 0, .inr (2, mFs o (nI 0) p0 q0 r0 mu_3 zz)), (o 5, .inl (dA 1, 2640, .inr (.inl fA_1)))]) [0, 1] rfl)) rfl rfl hl.1 rfl (lv_room (Nat.le_of_ble_eq_true rfl)) dX7_squareKind_54 ⟨by first | decide | omega, by first | decide | omega⟩) ?_
        refine e_l (y := P_6 1) (hold_at hH_6 (i := 0 + 1) (by omega) (by omega)) ?_
        refine lv_lstore_n (lv' := [(2, .long (P_6 1)), (0, .ref (o 0)), (1, .int (nI ja))]) hx hb dX7_squareKind_57 rfl hl (by decide) rfl (fun ls hl => ?_)
        refine lv_lload_n hx hb dX7_squareKind_58 rfl (lv_at hl 0 rfl) ?_
        refine lv_lconst (v := 0) hx hb dX7_squareKind_59 rfl ?_
        refine W.lcmp hx hb dX7_squareKind_60 ?_
        refine lv_if_le (tgt := 68) hx hb dX7_squareKind_61 (by decide) (fun c_61 => ?_) (fun c_61 => ?_)
        · have c_61 : (P_6 1) ≤ 0 := (lg_cmp_le _ _).mp c_61
          refine lv_lload_n hx hb dX7_squareKind_68 rfl (lv_at hl 0 rfl) ?_
          refine lv_lconst (v := 0) hx hb dX7_squareKind_69 rfl ?_
          refine W.lcmp hx hb dX7_squareKind_70 ?_
          refine lv_if_ge (tgt := 78) hx hb dX7_squareKind_71 (by decide) (fun c_71 => ?_) (fun c_71 => ?_)
          · have c_71 : 0 ≤ (P_6 1) := (lg_cmp_ge _ _).mp c_71
            refine lv_iconst (v := nI 3) hx hb dX7_squareKind_78 (by decide) ?_
            subst hQe
            exact W.iret (v := nI 3) hx hb hr (fun t ht hW => ⟨⟨_, (fA_1, fM_2, mu_3, nI 0), rfl, ⟨(by simp [sqkX, rgB, blB, optC, h_a, e_6, c_45, Int64.not_lt.mpr c_61, Int64.not_lt.mpr c_71, rg_n (show ja < 8 by omega), nI_clamp (show ja < 2 ^ 31 by omega)]), (fun k9 hk9 i9 hi9 => by (try dsimp only [outH] at hk9); show fA_1 (33 * k9 + i9) = fA (33 * k9 + i9); rw [hS_6 _ (by omega)])⟩, B1_at ht (hP.sub [0, 1, 2] rfl) (hD.sub [0, 1, 2] (by decide) rfl) trivial⟩, hS.F ht⟩) hS.2.2 dX7_squareKind_79
          · have c_71 : ¬ 0 ≤ (P_6 1) := fun h => c_71 ((lg_cmp_ge _ _).mpr h)
            refine lv_iconst (v := nI 2) hx hb dX7_squareKind_74 (by decide) ?_
            refine lv_goto (tgt := 79) hx hb dX7_squareKind_75 (by decide) ?_
            subst hQe
            exact W.iret (v := nI 2) hx hb hr (fun t ht hW => ⟨⟨_, (fA_1, fM_2, mu_3, nI 0), rfl, ⟨(by simp [sqkX, rgB, blB, optC, h_a, e_6, c_45, Int64.not_lt.mpr c_61, Int64.not_le.mp c_71, rg_n (show ja < 8 by omega), nI_clamp (show ja < 2 ^ 31 by omega)]), (fun k9 hk9 i9 hi9 => by (try dsimp only [outH] at hk9); show fA_1 (33 * k9 + i9) = fA (33 * k9 + i9); rw [hS_6 _ (by omega)])⟩, B1_at ht (hP.sub [0, 1, 2] rfl) (hD.sub [0, 1, 2] (by decide) rfl) trivial⟩, hS.F ht⟩) hS.2.2 dX7_squareKind_79
        · have c_61 : ¬ (P_6 1) ≤ 0 := fun h => c_61 ((lg_cmp_le _ _).mpr h)
          refine lv_iconst (v := nI 1) hx hb dX7_squareKind_64 (by decide) ?_
          refine lv_goto (tgt := 79) hx hb dX7_squareKind_65 (by decide) ?_
          subst hQe
          exact W.iret (v := nI 1) hx hb hr (fun t ht hW => ⟨⟨_, (fA_1, fM_2, mu_3, nI 0), rfl, ⟨(by simp [sqkX, rgB, blB, optC, h_a, e_6, c_45, Int64.not_le.mp c_61, rg_n (show ja < 8 by omega), nI_clamp (show ja < 2 ^ 31 by omega)]), (fun k9 hk9 i9 hi9 => by (try dsimp only [outH] at hk9); show fA_1 (33 * k9 + i9) = fA (33 * k9 + i9); rw [hS_6 _ (by omega)])⟩, B1_at ht (hP.sub [0, 1, 2] rfl) (hD.sub [0, 1, 2] (by decide) rfl) trivial⟩, hS.F ht⟩) hS.2.2 dX7_squareKind_79
      · have c_45 : ¬ (grS P_6 &&& 62) = 0 := fun h => c_45 ((nI_eq (a := (grS P_6 &&& 62)) (b := 0) (by omega) (by omega)).mpr h)
        refine lv_iconst (v := nI 0) hx hb dX7_squareKind_48 (by decide) ?_
        subst hQe
        exact W.iret (v := nI 0) hx hb hr (fun t ht hW => ⟨⟨_, (fA_1, fM_2, mu_3, nI 0), rfl, ⟨(by simp [sqkX, rgB, blB, optC, h_a, e_6, c_45, rg_n (show ja < 8 by omega), nI_clamp (show ja < 2 ^ 31 by omega)]), (fun k9 hk9 i9 hi9 => by (try dsimp only [outH] at hk9); show fA_1 (33 * k9 + i9) = fA (33 * k9 + i9); rw [hS_6 _ (by omega)])⟩, B1_at ht (hP.sub [0, 1, 2] rfl) (hD.sub [0, 1, 2] (by decide) rfl) trivial⟩, hS.F ht⟩) hS.2.2 dX7_squareKind_49
    · have hh_9 : Hold fA_1 ja (Ms ja) := by rw [hE_6]; exact (hR ja (by omega))
      refine lv_if_ne (tgt := 31) hx hb dX7_squareKind_22 (by decide) (fun c_22 => ?_) (fun c_22 => ?_)
      · exact absurd (by decide) c_22
      refine lv_aload_n hx hb dX7_squareKind_25 rfl (lv_at hl 0 rfl) ?_
      refine lv_iconst (v := nI 2) hx hb dX7_squareKind_26 (by decide) ?_
      have hF9 := va_free (wc := [(o 0, .inr (2, mFs o th p0 q0 r0 mu_3 zz))]) hD hS (fun q h => hA q h) [0] rfl
      refine c_i (wr := [(o 5, .inl (dA 1, 2640, .inr (.inl fA_1))), (o 6, .inl (dA 1, 32, .inr (.inl fM_2)))]) (va_runV (As := [.int (nI 2)]) (rest := []) ⟨hx, hb, hml, hown, hts⟩ (x7_refuses Z (va_A [(o 0, .inr (2, mFs o th p0 q0 r0 mu_3 zz))] H.size) H.size (fun q h => Or.inr h) o th p0 q0 r0 mu_3 zz (nI 2)) (cwV 1 hts (lw_V q2100 q2102 qs34 q107 q2103) rfl rfl rfl (by decide +kernel) ⟨Nat.le_of_ble_eq_true rfl, Nat.le_of_ble_eq_true rfl⟩) (gP_V (va_recv hK hP (ci := 2) (q0 := 0) rfl rfl) hG hS (fun q _ h => hF9 q h) ⟨rfl, (hP.sub (ws' := [(o 0, .inr (2, mFs o th p0 q0 r0 mu_3 zz))]) [0] rfl), (hD.sub (ws' := [(o 0, .inr (2, mFs o th p0 q0 r0 mu_3 zz))]) [0] (by decide) rfl).self⟩) rfl rfl hl.1 rfl (lv_room (Nat.le_of_ble_eq_true rfl)) dX7_squareKind_27 ⟨by first | decide | omega, by first | decide | omega⟩) hP hD hS hA [0] [1, 2] rfl rfl (by decide) (by decide) (fun r9 u9 H locs hq hX hz hk hP hD hS => ?_)
      obtain ⟨r_10, rfl⟩ : ∃ z, z = r9 := ⟨_, rfl⟩
      obtain rfl := hq
      have hP : va_P (dC, dI) vwCl [(o 5, .inl (dA 1, 2640, .inr (.inl fA_1))), (o 6, .inl (dA 1, 32, .inr (.inl fM_2))), (o 0, .inr (2, mFs o (nI 2) p0 q0 r0 mu_3 zz))] H := hP
      have hD : va_D A [(o 5, .inl (dA 1, 2640, .inr (.inl fA_1))), (o 6, .inl (dA 1, 32, .inr (.inl fM_2))), (o 0, .inr (2, mFs o (nI 2) p0 q0 r0 mu_3 zz))] := hD
      subst hQe
      exact W.iret (v := nI 0) hx hb hr (fun t ht hW => ⟨⟨_, (fA_1, fM_2, mu_3, nI 2), rfl, ⟨(by simp [sqkX, rgB, blB, optC, h_a, e_6, rg_n (show ja < 8 by omega), nI_clamp (show ja < 2 ^ 31 by omega)]), (fun k9 hk9 i9 hi9 => by (try dsimp only [outH] at hk9); show fA_1 (33 * k9 + i9) = fA (33 * k9 + i9); rw [hE_6])⟩, B1_at ht (hP.sub [2, 0, 1] rfl) (hD.sub [2, 0, 1] (by decide) rfl) trivial⟩, hS.F ht⟩) hS.2.2 dX7_squareKind_30
  · have h_a := bI_0 c_4
    refine lv_aload_n hx hb dX7_squareKind_7 rfl (lv_at hl 0 rfl) ?_
    refine lv_iconst (v := nI 1) hx hb dX7_squareKind_8 (by decide) ?_
    have hF9 := va_free (wc := [(o 0, .inr (2, mFs o th p0 q0 r0 mu zz))]) hD hS (fun q h => hA q h) [0] rfl
    refine c_i (wr := [(o 5, .inl (dA 1, 2640, .inr (.inl fA))), (o 6, .inl (dA 1, 32, .inr (.inl fM)))]) (va_runV (As := [.int (nI 1)]) (rest := []) ⟨hx, hb, hml, hown, hts⟩ (x7_refuses Z (va_A [(o 0, .inr (2, mFs o th p0 q0 r0 mu zz))] s.heap.size) s.heap.size (fun q h => Or.inr h) o th p0 q0 r0 mu zz (nI 1)) (cwV 1 hts (lw_V q2100 q2102 qs34 q107 q2103) rfl rfl rfl (by decide +kernel) ⟨Nat.le_of_ble_eq_true rfl, Nat.le_of_ble_eq_true rfl⟩) (gP_V (va_recv hK hP (ci := 2) (q0 := 0) rfl rfl) hG hS (fun q _ h => hF9 q h) ⟨rfl, (hP.sub (ws' := [(o 0, .inr (2, mFs o th p0 q0 r0 mu zz))]) [0] rfl), (hD.sub (ws' := [(o 0, .inr (2, mFs o th p0 q0 r0 mu zz))]) [0] (by decide) rfl).self⟩) rfl rfl hl.1 rfl (lv_room (Nat.le_of_ble_eq_true rfl)) dX7_squareKind_9 ⟨by first | decide | omega, by first | decide | omega⟩) hP hD hS hA [0] [1, 2] rfl rfl (by decide) (by decide) (fun r9 u9 H locs hq hX hz hk hP hD hS => ?_)
    obtain ⟨r_11, rfl⟩ : ∃ z, z = r9 := ⟨_, rfl⟩
    obtain rfl := hq
    have hP : va_P (dC, dI) vwCl [(o 5, .inl (dA 1, 2640, .inr (.inl fA))), (o 6, .inl (dA 1, 32, .inr (.inl fM))), (o 0, .inr (2, mFs o (nI 1) p0 q0 r0 mu zz))] H := hP
    have hD : va_D A [(o 5, .inl (dA 1, 2640, .inr (.inl fA))), (o 6, .inl (dA 1, 32, .inr (.inl fM))), (o 0, .inr (2, mFs o (nI 1) p0 q0 r0 mu zz))] := hD
    subst hQe
    exact W.iret (v := nI 0) hx hb hr (fun t ht hW => ⟨⟨_, (fA, fM, mu, nI 1), rfl, ⟨(by simp [sqkX, rgB, blB, optC, h_a]), (fun k9 hk9 i9 hi9 => rfl)⟩, B1_at ht (hP.sub [2, 0, 1] rfl) (hD.sub [2, 0, 1] (by decide) rfl) trivial⟩, hS.F ht⟩) hS.2.2 dX7_squareKind_12
set_option maxHeartbeats 4000000 in
theorem x7_copy {l : Launch} {dC : Nat → ClassId} {dI : Nat → Nat → Nat} {dA : Nat → ClassId} {s0 : State} {b0 : Addr} (Z : Z0 l dC dI dA s0 b0) (A : Nat → Prop) (sz : Nat) (hA : ∀ q : Nat, sz ≤ q → A q) (o : Nat → Nat) (th : Int32) (p0 q0 r0 : Nat) (mu : Int64) (zz : Nat → Int32) (fA fM : Nat → Int64) (Ms : Nat → MV) (t : Int32) (a : Int32) (hn : p0 + q0 + r0 ≤ 5) (hR : ∀ k, k < 8 → Hold fA k (Ms k)) (sR : ∀ k, k < 8 → MSm (Ms k)) : Met l yX7_copy (ws_ yX7_copy cX7_copy 3 none) ({ frames := 3, cells := 0, slots := 0, locals := 180 } : Room) (gP [.ref (o 0), .int t, .int a] s0 A (fun H => H.size = sz ∧ va_P (dC, dI) vwCl [(o 0, .inr (2, mFs o th p0 q0 r0 mu zz)), (o 5, .inl (dA 1, 2640, .inr (.inl fA))), (o 6, .inl (dA 1, 32, .inr (.inl fM)))] H ∧ va_D A [(o 0, .inr (2, mFs o th p0 q0 r0 mu zz)), (o 5, .inl (dA 1, 2640, .inr (.inl fA))), (o 6, .inl (dA 1, 32, .inr (.inl fM)))])) (va_Qv (S := (Nat → Int64) × (Nat → Int64) × Int64 × Int32) (fun u => VPost fA (rg t) (cpyX Ms t a) u.2.2.2 u.1) (B1 (dC, dI) A (fun u => mC dA o u.2.2.2 p0 q0 r0 u.2.2.1 zz u.1 u.2.1) (fun _ _ => True)) A) 0 0 A := by
  refine Met.ofW (cc := cX7_copy) (maxL := 3) (ret := none) (by decide) rfl ?_
  intro p e s m args below meth c s₁ B hml hv
  obtain ⟨hav, hG, hsz, hP, hD⟩ := hv
  have hx := B.exec
  have hb := B.bytes
  have hr := B.returns
  have hts := atoms_spec (ws := (ws_ yX7_copy cX7_copy 3 none)) B.pre
  have hts : ∀ w ∈ lw_all, w.before _ s = true := fun w h => hts w (List.mem_cons_of_mem _ h)
  have hown : s.vm.findClass RX7 = some m.cls := findClass_of_methodNamed B.named
  have hlocks := B.notSynchronized
  have hK := hG.K Z
  subst hsz
  have hS : va_S A s.heap s.heap [] := va_S.rf
  have hl := lv_entry ([.ref (o 0), .int t, .int a]) (n := 3) (Nat.le_of_ble_eq_true rfl)
  rw [show entryFrame m args 3 = entryFrame m ([.ref (o 0), .int t, .int a] : List Value).toArray 3 from by rw [hav], lg_entry_eq]
  generalize (lg_sl ([.ref (o 0), .int t, .int a]) ++ List.replicate (3 - (lg_sl ([.ref (o 0), .int t, .int a])).length) Slot.unset).toArray = ls at hl ⊢
  have hl : lv_has ls 3 [(0, .ref (o 0)), (1, .int t), (2, .int a)] := hl
  generalize hQe : MQ below _ _ s _ _ _ = Q
  change W p l e ({ frames := 3, cells := 0, slots := 0, locals := 180 } : Room) s m args below meth c s.heap [] 0 0 Q (F0 m 0 ls [])
  refine lv_aload_n hx hb dX7_copy_0 rfl (lv_at hl 0 rfl) ?_
  refine lv_iload_n hx hb dX7_copy_1 rfl (lv_at hl 1 rfl) ?_
  refine s_i (va_runS (As := [.int t]) (rest := [.ref (o 0)]) ⟨hx, hb, hml, hown, hts⟩ (x7_isRegister Z t) (va_cwS 1 hts (lw_S q2104 q2105 q107 q2106) rfl rfl rfl (by decide +kernel) ⟨Nat.le_of_ble_eq_true rfl, Nat.le_of_ble_eq_true rfl⟩) (gP_S hG hS (fun q _ h => h.elim) trivial) rfl rfl hl.1 rfl (lv_room (Nat.le_of_ble_eq_true rfl)) dX7_copy_2 ⟨by first | decide | omega, by first | decide | omega⟩) ?_
  refine lv_if_eq (tgt := 19) hx hb dX7_copy_5 (by decide) (fun c_5 => ?_) (fun c_5 => ?_)
  · have h_t := bI_0 c_5
    refine lv_iconst (v := nI 1) hx hb dX7_copy_19 (by decide) ?_
    refine va_put (D := (dC, dI)) (ci := 2) (v := .int (nI 1)) (ty := .int) (C := RX7) (T := TX7) (N := 27) hx hb hts in_X7 tyX7 tyX7_ok nmX7 hown hK hP hD hS 0 rfl rfl 0 (by decide) (hts _ q2006) (fun _ h9 => h9) rfl (by decide +kernel) rfl rfl (Nat.le_of_ble_eq_true rfl) dX7_copy_20 (fun H locs hP hD hS => ?_)
    have hP : va_P (dC, dI) vwCl [(o 0, .inr (2, mFs o (nI 1) p0 q0 r0 mu zz)), (o 5, .inl (dA 1, 2640, .inr (.inl fA))), (o 6, .inl (dA 1, 32, .inr (.inl fM)))] H := hP
    have hD : va_D A [(o 0, .inr (2, mFs o (nI 1) p0 q0 r0 mu zz)), (o 5, .inl (dA 1, 2640, .inr (.inl fA))), (o 6, .inl (dA 1, 32, .inr (.inl fM)))] := hD
    refine lv_aload_n hx hb dX7_copy_23 rfl (lv_at hl 0 rfl) ?_
    refine va_get (D := (dC, dI)) (ci := 2) (v := .int (nI 1)) (C := RX7) (T := TX7) (N := 27) hx hb hts in_X7 hown hK hP 0 rfl rfl 0 (by decide) (hts _ q2006) (fun _ h9 => h9) rfl dX7_copy_24 ?_
    refine lv_if_ne (tgt := 36) hx hb dX7_copy_27 (by decide) (fun c_27 => ?_) (fun c_27 => ?_)
    rotate_left
    · exact absurd c_27 (by decide)
    subst hQe
    exact W.vret hx hb hr (fun t ht hW => ⟨⟨(fA, fM, mu, nI 1), rfl, VPost.mk0 (c := nI 1) (by simp [cpyX, rgB, blB, optC, h_t]) (fun k9 hk9 i9 hi9 => rfl), B1_at ht (hP.sub [0, 1, 2] rfl) (hD.sub [0, 1, 2] (by decide) rfl) trivial⟩, hS.F ht⟩) hS.2.2 dX7_copy_36
  · have h_t := bI_1 c_5
    obtain ⟨jt, hj_t, rfl⟩ := inB_nat (by decide) h_t
    refine lv_iload_n hx hb dX7_copy_8 rfl (lv_at hl 2 rfl) ?_
    refine s_i (va_runS (As := [.int a]) (rest := [.ref (o 0)]) ⟨hx, hb, hml, hown, hts⟩ (x7_isRegister Z a) (va_cwS 1 hts (lw_S q2104 q2105 q107 q2106) rfl rfl rfl (by decide +kernel) ⟨Nat.le_of_ble_eq_true rfl, Nat.le_of_ble_eq_true rfl⟩) (gP_S hG hS (fun q _ h => h.elim) trivial) rfl rfl hl.1 rfl (lv_room (Nat.le_of_ble_eq_true rfl)) dX7_copy_9 ⟨by first | decide | omega, by first | decide | omega⟩) ?_
    refine lv_if_eq (tgt := 19) hx hb dX7_copy_12 (by decide) (fun c_12 => ?_) (fun c_12 => ?_)
    · have h_a := bI_0 c_12
      refine lv_iconst (v := nI 1) hx hb dX7_copy_19 (by decide) ?_
      refine va_put (D := (dC, dI)) (ci := 2) (v := .int (nI 1)) (ty := .int) (C := RX7) (T := TX7) (N := 27) hx hb hts in_X7 tyX7 tyX7_ok nmX7 hown hK hP hD hS 0 rfl rfl 0 (by decide) (hts _ q2006) (fun _ h9 => h9) rfl (by decide +kernel) rfl rfl (Nat.le_of_ble_eq_true rfl) dX7_copy_20 (fun H locs hP hD hS => ?_)
      have hP : va_P (dC, dI) vwCl [(o 0, .inr (2, mFs o (nI 1) p0 q0 r0 mu zz)), (o 5, .inl (dA 1, 2640, .inr (.inl fA))), (o 6, .inl (dA 1, 32, .inr (.inl fM)))] H := hP
      have hD : va_D A [(o 0, .inr (2, mFs o (nI 1) p0 q0 r0 mu zz)), (o 5, .inl (dA 1, 2640, .inr (.inl fA))), (o 6, .inl (dA 1, 32, .inr (.inl fM)))] := hD
      refine lv_aload_n hx hb dX7_copy_23 rfl (lv_at hl 0 rfl) ?_
      refine va_get (D := (dC, dI)) (ci := 2) (v := .int (nI 1)) (C := RX7) (T := TX7) (N := 27) hx hb hts in_X7 hown hK hP 0 rfl rfl 0 (by decide) (hts _ q2006) (fun _ h9 => h9) rfl dX7_copy_24 ?_
      refine lv_if_ne (tgt := 36) hx hb dX7_copy_27 (by decide) (fun c_27 => ?_) (fun c_27 => ?_)
      rotate_left
      · exact absurd c_27 (by decide)
      subst hQe
      exact W.vret hx hb hr (fun t ht hW => ⟨⟨(fA, fM, mu, nI 1), rfl, VPost.mk0 (c := nI 1) (by simp [cpyX, rgB, blB, optC, h_t, h_a, rg_n (show jt < 8 by omega), nI_clamp (show jt < 2 ^ 31 by omega)]) (fun k9 hk9 i9 hi9 => rfl), B1_at ht (hP.sub [0, 1, 2] rfl) (hD.sub [0, 1, 2] (by decide) rfl) trivial⟩, hS.F ht⟩) hS.2.2 dX7_copy_36
    · have h_a := bI_1 c_12
      obtain ⟨ja, hj_a, rfl⟩ := inB_nat (by decide) h_a
      refine lv_iconst (v := nI 0) hx hb dX7_copy_15 (by decide) ?_
      refine lv_goto (tgt := 20) hx hb dX7_copy_16 (by decide) ?_
      refine va_put (D := (dC, dI)) (ci := 2) (v := .int (nI 0)) (ty := .int) (C := RX7) (T := TX7) (N := 27) hx hb hts in_X7 tyX7 tyX7_ok nmX7 hown hK hP hD hS 0 rfl rfl 0 (by decide) (hts _ q2006) (fun _ h9 => h9) rfl (by decide +kernel) rfl rfl (Nat.le_of_ble_eq_true rfl) dX7_copy_20 (fun H locs hP hD hS => ?_)
      have hP : va_P (dC, dI) vwCl [(o 0, .inr (2, mFs o (nI 0) p0 q0 r0 mu zz)), (o 5, .inl (dA 1, 2640, .inr (.inl fA))), (o 6, .inl (dA 1, 32, .inr (.inl fM)))] H := hP
      have hD : va_D A [(o 0, .inr (2, mFs o (nI 0) p0 q0 r0 mu zz)), (o 5, .inl (dA 1, 2640, .inr (.inl fA))), (o 6, .inl (dA 1, 32, .inr (.inl fM)))] := hD
      refine lv_aload_n hx hb dX7_copy_23 rfl (lv_at hl 0 rfl) ?_
      refine va_get (D := (dC, dI)) (ci := 2) (v := .int (nI 0)) (C := RX7) (T := TX7) (N := 27) hx hb hts in_X7 hown hK hP 0 rfl rfl 0 (by decide) (hts _ q2006) (fun _ h9 => h9) rfl dX7_copy_24 ?_
      refine lv_if_ne (tgt := 36) hx hb dX7_copy_27 (by decide) (fun c_27 => ?_) (fun c_27 => ?_)
      · exact absurd (by decide) c_27
      refine lv_aload_n hx hb dX7_copy_30 rfl (lv_at hl 0 rfl) ?_
      refine lv_iload_n hx hb dX7_copy_31 rfl (lv_at hl 2 rfl) ?_
      refine lv_iload_n hx hb dX7_copy_32 rfl (lv_at hl 1 rfl) ?_
      have hF9 := va_free (wc := [(o 0, .inr (2, mFs o (nI 0) p0 q0 r0 mu zz)), (o 5, .inl (dA 1, 2640, .inr (.inl fA)))]) hD hS (fun q h => hA q h) [0, 1] rfl
      refine c_v (wr := [(o 6, .inl (dA 1, 32, .inr (.inl fM)))]) (va_runV (As := [.int (nI ja), .int (nI jt)]) (rest := []) ⟨hx, hb, hml, hown, hts⟩ (x7_copies Z (va_A [(o 0, .inr (2, mFs o (nI 0) p0 q0 r0 mu zz)), (o 5, .inl (dA 1, 2640, .inr (.inl fA)))] H.size) H.size (fun q h => Or.inr h) o (nI 0) p0 q0 r0 mu zz fA fM ja jt (by omega) (by omega)) (cwV 2 hts (lw_V q2185 q2187 qs49 q107 q2188) rfl rfl rfl (by decide +kernel) ⟨Nat.le_of_ble_eq_true rfl, Nat.le_of_ble_eq_true rfl⟩) (gP_V (va_recv hK hP (ci := 2) (q0 := 0) rfl rfl) hG hS (fun q _ h => hF9 q h) ⟨rfl, (hP.sub (ws' := [(o 0, .inr (2, mFs o (nI 0) p0 q0 r0 mu zz)), (o 5, .inl (dA 1, 2640, .inr (.inl fA)))]) [0, 1] rfl), (hD.sub (ws' := [(o 0, .inr (2, mFs o (nI 0) p0 q0 r0 mu zz)), (o 5, .inl (dA 1, 2640, .inr (.inl fA)))]) [0, 1] (by decide) rfl).self⟩) rfl rfl hl.1 rfl (lv_room (Nat.le_of_ble_eq_true rfl)) dX7_copy_33 ⟨by first | decide | omega, by first | decide | omega⟩) hP hD hS hA [0, 1] [2] rfl rfl (by decide) (by decide) (fun u9 H locs hq hX hz hk hP hD hS => ?_)
      have hP : va_P (dC, dI) vwCl [(o 6, .inl (dA 1, 32, .inr (.inl fM))), (o 0, .inr (2, mFs o (nI 0) p0 q0 r0 mu zz)), (o 5, .inl (dA 1, 2640, .inr (.inl (cpS fA ja jt))))] H := hP
      have hD : va_D A [(o 6, .inl (dA 1, 32, .inr (.inl fM))), (o 0, .inr (2, mFs o (nI 0) p0 q0 r0 mu zz)), (o 5, .inl (dA 1, 2640, .inr (.inl (cpS fA ja jt))))] := hD
      have hc_2 := cpS_hold (t := jt) (hR ja (by omega))
      have hs_3 := cpS_same (fA := fA) (k := ja) (t := jt)
      generalize cpS fA ja jt = fA_1 at hP hD hc_2 hs_3
      subst hQe
      exact W.vret hx hb hr (fun t ht hW => ⟨⟨(fA_1, fM, mu, nI 0), rfl, (by rw [rg_n (show jt < 8 by omega)]; exact VPost.mk1 (P := (Ms ja)) (by simp [cpyX, rgB, blB, optC, h_t, h_a, rg_n (show jt < 8 by omega), rg_n (show ja < 8 by omega), nI_clamp (show jt < 2 ^ 31 by omega), nI_clamp (show ja < 2 ^ 31 by omega)]) hc_2 (fun k9 hk9 i9 hi9 => by (try dsimp only [outH] at hk9); show fA_1 (33 * k9 + i9) = fA (33 * k9 + i9); rw [hs_3 _ (by omega)])), B1_at ht (hP.sub [1, 2, 0] rfl) (hD.sub [1, 2, 0] (by decide) rfl) trivial⟩, hS.F ht⟩) hS.2.2 dX7_copy_36
set_option maxHeartbeats 4000000 in
theorem x7_setCoefficient {l : Launch} {dC : Nat → ClassId} {dI : Nat → Nat → Nat} {dA : Nat → ClassId} {s0 : State} {b0 : Addr} (Z : Z0 l dC dI dA s0 b0) (A : Nat → Prop) (sz : Nat) (hA : ∀ q : Nat, sz ≤ q → A q) (o : Nat → Nat) (th : Int32) (p0 q0 r0 : Nat) (mu : Int64) (zz : Nat → Int32) (fA fM : Nat → Int64) (Ms : Nat → MV) (t : Int32) (b : Int32) (x : Int32) (y : Int32) (hn : p0 + q0 + r0 ≤ 5) (hR : ∀ k, k < 8 → Hold fA k (Ms k)) (sR : ∀ k, k < 8 → MSm (Ms k)) : Met l yX7_setCoefficient (ws_ yX7_setCoefficient cX7_setCoefficient 7 none) ({ frames := 4, cells := 0, slots := 0, locals := 240 } : Room) (gP [.ref (o 0), .int t, .int b, .int x, .int y] s0 A (fun H => H.size = sz ∧ va_P (dC, dI) vwCl [(o 0, .inr (2, mFs o th p0 q0 r0 mu zz)), (o 5, .inl (dA 1, 2640, .inr (.inl fA))), (o 6, .inl (dA 1, 32, .inr (.inl fM)))] H ∧ va_D A [(o 0, .inr (2, mFs o th p0 q0 r0 mu zz)), (o 5, .inl (dA 1, 2640, .inr (.inl fA))), (o 6, .inl (dA 1, 32, .inr (.inl fM)))])) (va_Qv (S := (Nat → Int64) × (Nat → Int64) × Int64 × Int32) (fun u => VPost fA (rg t) (setX p0 q0 r0 Ms t b x y) u.2.2.2 u.1) (B1 (dC, dI) A (fun u => mC dA o u.2.2.2 p0 q0 r0 u.2.2.1 zz u.1 u.2.1) (fun _ _ => True)) A) 0 0 A := by
  refine Met.ofW (cc := cX7_setCoefficient) (maxL := 7) (ret := none) (by decide) rfl ?_
  intro p e s m args below meth c s₁ B hml hv
  obtain ⟨hav, hG, hsz, hP, hD⟩ := hv
  have hx := B.exec
  have hb := B.bytes
  have hr := B.returns
  have hts := atoms_spec (ws := (ws_ yX7_setCoefficient cX7_setCoefficient 7 none)) B.pre
  have hts : ∀ w ∈ lw_all, w.before _ s = true := fun w h => hts w (List.mem_cons_of_mem _ h)
  have hown : s.vm.findClass RX7 = some m.cls := findClass_of_methodNamed B.named
  have hlocks := B.notSynchronized
  have hK := hG.K Z
  subst hsz
  have hS : va_S A s.heap s.heap [] := va_S.rf
  have hl := lv_entry ([.ref (o 0), .int t, .int b, .int x, .int y]) (n := 7) (Nat.le_of_ble_eq_true rfl)
  rw [show entryFrame m args 7 = entryFrame m ([.ref (o 0), .int t, .int b, .int x, .int y] : List Value).toArray 7 from by rw [hav], lg_entry_eq]
  generalize (lg_sl ([.ref (o 0), .int t, .int b, .int x, .int y]) ++ List.replicate (7 - (lg_sl ([.ref (o 0), .int t, .int b, .int x, .int y])).length) Slot.unset).toArray = ls at hl ⊢
  have hl : lv_has ls 7 [(0, .ref (o 0)), (1, .int t), (2, .int b), (3, .int x), (4, .int y)] := hl
  generalize hQe : MQ below _ _ s _ _ _ = Q
  change W p l e ({ frames := 4, cells := 0, slots := 0, locals := 240 } : Room) s m args below meth c s.heap [] 0 0 Q (F0 m 0 ls [])
  refine lv_iload_n hx hb dX7_setCoefficient_0 rfl (lv_at hl 1 rfl) ?_
  refine s_i (va_runS (As := [.int t]) (rest := []) ⟨hx, hb, hml, hown, hts⟩ (x7_isRegister Z t) (va_cwS 1 hts (lw_S q2104 q2105 q107 q2106) rfl rfl rfl (by decide +kernel) ⟨Nat.le_of_ble_eq_true rfl, Nat.le_of_ble_eq_true rfl⟩) (gP_S hG hS (fun q _ h => h.elim) trivial) rfl rfl hl.1 rfl (lv_room (Nat.le_of_ble_eq_true rfl)) dX7_setCoefficient_1 ⟨by first | decide | omega, by first | decide | omega⟩) ?_
  refine lv_if_eq (tgt := 19) hx hb dX7_setCoefficient_4 (by decide) (fun c_4 => ?_) (fun c_4 => ?_)
  · have h_t := bI_0 c_4
    refine lv_iconst (v := nI 0) hx hb dX7_setCoefficient_19 (by decide) ?_
    refine lv_istore (lv' := [(5, .int (nI 0)), (0, .ref (o 0)), (1, .int t), (2, .int b), (3, .int x), (4, .int y)]) hx hb dX7_setCoefficient_20 hl (by decide) rfl (fun ls hl => ?_)
    refine lv_aload_n hx hb dX7_setCoefficient_22 rfl (lv_at hl 1 rfl) ?_
    refine lv_iload hx hb dX7_setCoefficient_23 (lv_at hl 0 rfl) ?_
    refine lv_if_ne (tgt := 32) hx hb dX7_setCoefficient_25 (by decide) (fun c_25 => ?_) (fun c_25 => ?_)
    · exact absurd (by decide) c_25
    refine lv_iconst (v := nI 1) hx hb dX7_setCoefficient_28 (by decide) ?_
    refine lv_goto (tgt := 57) hx hb dX7_setCoefficient_29 (by decide) ?_
    refine va_put (D := (dC, dI)) (ci := 2) (v := .int (nI 1)) (ty := .int) (C := RX7) (T := TX7) (N := 27) hx hb hts in_X7 tyX7 tyX7_ok nmX7 hown hK hP hD hS 0 rfl rfl 0 (by decide) (hts _ q2006) (fun _ h9 => h9) rfl (by decide +kernel) rfl rfl (Nat.le_of_ble_eq_true rfl) dX7_setCoefficient_57 (fun H locs hP hD hS => ?_)
    have hP : va_P (dC, dI) vwCl [(o 0, .inr (2, mFs o (nI 1) p0 q0 r0 mu zz)), (o 5, .inl (dA 1, 2640, .inr (.inl fA))), (o 6, .inl (dA 1, 32, .inr (.inl fM)))] H := hP
    have hD : va_D A [(o 0, .inr (2, mFs o (nI 1) p0 q0 r0 mu zz)), (o 5, .inl (dA 1, 2640, .inr (.inl fA))), (o 6, .inl (dA 1, 32, .inr (.inl fM)))] := hD
    refine lv_aload_n hx hb dX7_setCoefficient_60 rfl (lv_at hl 1 rfl) ?_
    refine va_get (D := (dC, dI)) (ci := 2) (v := .int (nI 1)) (C := RX7) (T := TX7) (N := 27) hx hb hts in_X7 hown hK hP 0 rfl rfl 0 (by decide) (hts _ q2006) (fun _ h9 => h9) rfl dX7_setCoefficient_61 ?_
    refine lv_if_le (tgt := 68) hx hb dX7_setCoefficient_64 (by decide) (fun c_64 => ?_) (fun c_64 => ?_)
    · exact absurd c_64 (by decide)
    subst hQe
    exact W.vret hx hb hr (fun t ht hW => ⟨⟨(fA, fM, mu, nI 1), rfl, VPost.mk0 (c := nI 1) (by simp [setX, rgB, blB, optC, h_t]) (fun k9 hk9 i9 hi9 => rfl), B1_at ht (hP.sub [0, 1, 2] rfl) (hD.sub [0, 1, 2] (by decide) rfl) trivial⟩, hS.F ht⟩) hS.2.2 dX7_setCoefficient_67
  · have h_t := bI_1 c_4
    obtain ⟨jt, hj_t, rfl⟩ := inB_nat (by decide) h_t
    refine lv_aload_n hx hb dX7_setCoefficient_7 rfl (lv_at hl 0 rfl) ?_
    refine lv_iload_n hx hb dX7_setCoefficient_8 rfl (lv_at hl 2 rfl) ?_
    refine s_i (va_runV (As := [.int b]) (rest := []) ⟨hx, hb, hml, hown, hts⟩ (x7_isBlade0 Z o th p0 q0 r0 mu zz b (by omega)) (cwV 1 hts (lw_V q2233 q2235 qs55 q107 q2236) rfl rfl rfl (by decide +kernel) ⟨Nat.le_of_ble_eq_true rfl, Nat.le_of_ble_eq_true rfl⟩) (gP_V (va_recv hK hP (ci := 2) (q0 := 0) rfl rfl) hG hS (fun q _ h => h.elim) (hP.sub (ws' := [(o 0, .inr (2, mFs o th p0 q0 r0 mu zz))]) [0] rfl)) rfl rfl hl.1 rfl (lv_room (Nat.le_of_ble_eq_true rfl)) dX7_setCoefficient_9 ⟨by first | decide | omega, by first | decide | omega⟩) ?_
    refine lv_if_eq (tgt := 19) hx hb dX7_setCoefficient_12 (by decide) (fun c_12 => ?_) (fun c_12 => ?_)
    · have h_b := bI_0 c_12
      refine lv_iconst (v := nI 0) hx hb dX7_setCoefficient_19 (by decide) ?_
      refine lv_istore (lv' := [(5, .int (nI 0)), (0, .ref (o 0)), (1, .int (nI jt)), (2, .int b), (3, .int x), (4, .int y)]) hx hb dX7_setCoefficient_20 hl (by decide) rfl (fun ls hl => ?_)
      refine lv_aload_n hx hb dX7_setCoefficient_22 rfl (lv_at hl 1 rfl) ?_
      refine lv_iload hx hb dX7_setCoefficient_23 (lv_at hl 0 rfl) ?_
      refine lv_if_ne (tgt := 32) hx hb dX7_setCoefficient_25 (by decide) (fun c_25 => ?_) (fun c_25 => ?_)
      · exact absurd (by decide) c_25
      refine lv_iconst (v := nI 1) hx hb dX7_setCoefficient_28 (by decide) ?_
      refine lv_goto (tgt := 57) hx hb dX7_setCoefficient_29 (by decide) ?_
      refine va_put (D := (dC, dI)) (ci := 2) (v := .int (nI 1)) (ty := .int) (C := RX7) (T := TX7) (N := 27) hx hb hts in_X7 tyX7 tyX7_ok nmX7 hown hK hP hD hS 0 rfl rfl 0 (by decide) (hts _ q2006) (fun _ h9 => h9) rfl (by decide +kernel) rfl rfl (Nat.le_of_ble_eq_true rfl) dX7_setCoefficient_57 (fun H locs hP hD hS => ?_)
      have hP : va_P (dC, dI) vwCl [(o 0, .inr (2, mFs o (nI 1) p0 q0 r0 mu zz)), (o 5, .inl (dA 1, 2640, .inr (.inl fA))), (o 6, .inl (dA 1, 32, .inr (.inl fM)))] H := hP
      have hD : va_D A [(o 0, .inr (2, mFs o (nI 1) p0 q0 r0 mu zz)), (o 5, .inl (dA 1, 2640, .inr (.inl fA))), (o 6, .inl (dA 1, 32, .inr (.inl fM)))] := hD
      refine lv_aload_n hx hb dX7_setCoefficient_60 rfl (lv_at hl 1 rfl) ?_
      refine va_get (D := (dC, dI)) (ci := 2) (v := .int (nI 1)) (C := RX7) (T := TX7) (N := 27) hx hb hts in_X7 hown hK hP 0 rfl rfl 0 (by decide) (hts _ q2006) (fun _ h9 => h9) rfl dX7_setCoefficient_61 ?_
      refine lv_if_le (tgt := 68) hx hb dX7_setCoefficient_64 (by decide) (fun c_64 => ?_) (fun c_64 => ?_)
      · exact absurd c_64 (by decide)
      subst hQe
      exact W.vret hx hb hr (fun t ht hW => ⟨⟨(fA, fM, mu, nI 1), rfl, VPost.mk0 (c := nI 1) (by simp [setX, rgB, blB, optC, h_t, h_b, rg_n (show jt < 8 by omega), nI_clamp (show jt < 2 ^ 31 by omega)]) (fun k9 hk9 i9 hi9 => rfl), B1_at ht (hP.sub [0, 1, 2] rfl) (hD.sub [0, 1, 2] (by decide) rfl) trivial⟩, hS.F ht⟩) hS.2.2 dX7_setCoefficient_67
    · have h_b := bI_1 c_12
      obtain ⟨jb, hj_b, rfl⟩ := inB_nat (by have := pow5 hn; omega) h_b
      have hj2_b : jb < 32 := by have := pow5 hn; omega
      refine lv_iconst (v := nI 1) hx hb dX7_setCoefficient_15 (by decide) ?_
      refine lv_goto (tgt := 20) hx hb dX7_setCoefficient_16 (by decide) ?_
      refine lv_istore (lv' := [(5, .int (nI 1)), (0, .ref (o 0)), (1, .int (nI jt)), (2, .int (nI jb)), (3, .int x), (4, .int y)]) hx hb dX7_setCoefficient_20 hl (by decide) rfl (fun ls hl => ?_)
      refine lv_aload_n hx hb dX7_setCoefficient_22 rfl (lv_at hl 1 rfl) ?_
      refine lv_iload hx hb dX7_setCoefficient_23 (lv_at hl 0 rfl) ?_
      refine lv_if_ne (tgt := 32) hx hb dX7_setCoefficient_25 (by decide) (fun c_25 => ?_) (fun c_25 => ?_)
      rotate_left
      · exact absurd c_25 (by decide)
      refine lv_iload_n hx hb dX7_setCoefficient_32 rfl (lv_at hl 4 rfl) ?_
      refine lv_i2l (v := x.toInt64) hx hb dX7_setCoefficient_33 rfl ?_
      refine s_i (va_runS (As := [.long x.toInt64]) (rest := [.ref (o 0)]) ⟨hx, hb, hml, hown, hts⟩ (x7_isSmall Z x.toInt64) (va_cwS 1 hts (lw_S q2134 q2135 q107 q2136) rfl rfl rfl (by decide +kernel) ⟨Nat.le_of_ble_eq_true rfl, Nat.le_of_ble_eq_true rfl⟩) (gP_S hG hS (fun q _ h => h.elim) trivial) rfl rfl hl.1 rfl (lv_room (Nat.le_of_ble_eq_true rfl)) dX7_setCoefficient_34 ⟨by first | decide | omega, by first | decide | omega⟩) ?_
      refine lv_if_eq (tgt := 52) hx hb dX7_setCoefficient_37 (by decide) (fun c_37 => ?_) (fun c_37 => ?_)
      · have hb_37 := bI_0 c_37
        refine lv_iconst (v := nI 2) hx hb dX7_setCoefficient_52 (by decide) ?_
        refine lv_goto (tgt := 57) hx hb dX7_setCoefficient_53 (by decide) ?_
        refine va_put (D := (dC, dI)) (ci := 2) (v := .int (nI 2)) (ty := .int) (C := RX7) (T := TX7) (N := 27) hx hb hts in_X7 tyX7 tyX7_ok nmX7 hown hK hP hD hS 0 rfl rfl 0 (by decide) (hts _ q2006) (fun _ h9 => h9) rfl (by decide +kernel) rfl rfl (Nat.le_of_ble_eq_true rfl) dX7_setCoefficient_57 (fun H locs hP hD hS => ?_)
        have hP : va_P (dC, dI) vwCl [(o 0, .inr (2, mFs o (nI 2) p0 q0 r0 mu zz)), (o 5, .inl (dA 1, 2640, .inr (.inl fA))), (o 6, .inl (dA 1, 32, .inr (.inl fM)))] H := hP
        have hD : va_D A [(o 0, .inr (2, mFs o (nI 2) p0 q0 r0 mu zz)), (o 5, .inl (dA 1, 2640, .inr (.inl fA))), (o 6, .inl (dA 1, 32, .inr (.inl fM)))] := hD
        refine lv_aload_n hx hb dX7_setCoefficient_60 rfl (lv_at hl 1 rfl) ?_
        refine va_get (D := (dC, dI)) (ci := 2) (v := .int (nI 2)) (C := RX7) (T := TX7) (N := 27) hx hb hts in_X7 hown hK hP 0 rfl rfl 0 (by decide) (hts _ q2006) (fun _ h9 => h9) rfl dX7_setCoefficient_61 ?_
        refine lv_if_le (tgt := 68) hx hb dX7_setCoefficient_64 (by decide) (fun c_64 => ?_) (fun c_64 => ?_)
        · exact absurd c_64 (by decide)
        subst hQe
        exact W.vret hx hb hr (fun t ht hW => ⟨⟨(fA, fM, mu, nI 2), rfl, VPost.mk0 (c := nI 2) (by simp [setX, rgB, blB, optC, h_t, h_b, hb_37, rg_n (show jt < 8 by omega), nI_clamp (show jt < 2 ^ 31 by omega), nI_clamp (show jb < 2 ^ 31 by omega)]) (fun k9 hk9 i9 hi9 => rfl), B1_at ht (hP.sub [0, 1, 2] rfl) (hD.sub [0, 1, 2] (by decide) rfl) trivial⟩, hS.F ht⟩) hS.2.2 dX7_setCoefficient_67
      · have hb_37 := bI_1 c_37
        refine lv_iload hx hb dX7_setCoefficient_40 (lv_at hl 5 rfl) ?_
        refine lv_iconst (v := nI 1) hx hb dX7_setCoefficient_42 (by decide) ?_
        refine lv_sipush (v := nI 10000) hx hb dX7_setCoefficient_43 (by decide) ?_
        refine s_i (va_runS (As := [.int y, .int (nI 1), .int (nI 10000)]) (rest := [.ref (o 0)]) ⟨hx, hb, hml, hown, hts⟩ (x7_in Z y (nI 1) (nI 10000)) (va_cwS 3 hts (lw_S q2097 q2098 q107 q2099) rfl rfl rfl (by decide +kernel) ⟨Nat.le_of_ble_eq_true rfl, Nat.le_of_ble_eq_true rfl⟩) (gP_S hG hS (fun q _ h => h.elim) trivial) rfl rfl hl.1 rfl (lv_room (Nat.le_of_ble_eq_true rfl)) dX7_setCoefficient_46 ⟨by first | decide | omega, by first | decide | omega⟩) ?_
        refine lv_if_ne (tgt := 56) hx hb dX7_setCoefficient_49 (by decide) (fun c_49 => ?_) (fun c_49 => ?_)
        · have hb_49 := bI_1 c_49
          refine lv_iconst (v := nI 0) hx hb dX7_setCoefficient_56 (by decide) ?_
          refine va_put (D := (dC, dI)) (ci := 2) (v := .int (nI 0)) (ty := .int) (C := RX7) (T := TX7) (N := 27) hx hb hts in_X7 tyX7 tyX7_ok nmX7 hown hK hP hD hS 0 rfl rfl 0 (by decide) (hts _ q2006) (fun _ h9 => h9) rfl (by decide +kernel) rfl rfl (Nat.le_of_ble_eq_true rfl) dX7_setCoefficient_57 (fun H locs hP hD hS => ?_)
          have hP : va_P (dC, dI) vwCl [(o 0, .inr (2, mFs o (nI 0) p0 q0 r0 mu zz)), (o 5, .inl (dA 1, 2640, .inr (.inl fA))), (o 6, .inl (dA 1, 32, .inr (.inl fM)))] H := hP
          have hD : va_D A [(o 0, .inr (2, mFs o (nI 0) p0 q0 r0 mu zz)), (o 5, .inl (dA 1, 2640, .inr (.inl fA))), (o 6, .inl (dA 1, 32, .inr (.inl fM)))] := hD
          refine lv_aload_n hx hb dX7_setCoefficient_60 rfl (lv_at hl 1 rfl) ?_
          refine va_get (D := (dC, dI)) (ci := 2) (v := .int (nI 0)) (C := RX7) (T := TX7) (N := 27) hx hb hts in_X7 hown hK hP 0 rfl rfl 0 (by decide) (hts _ q2006) (fun _ h9 => h9) rfl dX7_setCoefficient_61 ?_
          refine lv_if_le (tgt := 68) hx hb dX7_setCoefficient_64 (by decide) (fun c_64 => ?_) (fun c_64 => ?_)
          rotate_left
          · exact absurd (by decide) c_64
          refine lv_aload_n hx hb dX7_setCoefficient_68 rfl (lv_at hl 1 rfl) ?_
          have hF9 := va_free (wc := [(o 0, .inr (2, mFs o (nI 0) p0 q0 r0 mu zz)), (o 5, .inl (dA 1, 2640, .inr (.inl fA))), (o 6, .inl (dA 1, 32, .inr (.inl fM)))]) hD hS (fun q h => hA q h) [0, 1, 2] rfl
          refine c_v (wr := []) (va_runV (As := []) (rest := []) ⟨hx, hb, hml, hown, hts⟩ (x7_clearsMade Z (va_A [(o 0, .inr (2, mFs o (nI 0) p0 q0 r0 mu zz)), (o 5, .inl (dA 1, 2640, .inr (.inl fA))), (o 6, .inl (dA 1, 32, .inr (.inl fM)))] H.size) H.size (fun q h => Or.inr h) o (nI 0) p0 q0 r0 mu zz fA fM) (cwV 0 hts (lw_V q2115 q2117 qs37 q107 q2118) rfl rfl rfl (by decide +kernel) ⟨Nat.le_of_ble_eq_true rfl, Nat.le_of_ble_eq_true rfl⟩) (gP_V (va_recv hK hP (ci := 2) (q0 := 0) rfl rfl) hG hS (fun q _ h => hF9 q h) ⟨rfl, (hP.sub (ws' := [(o 0, .inr (2, mFs o (nI 0) p0 q0 r0 mu zz)), (o 5, .inl (dA 1, 2640, .inr (.inl fA))), (o 6, .inl (dA 1, 32, .inr (.inl fM)))]) [0, 1, 2] rfl), (hD.sub (ws' := [(o 0, .inr (2, mFs o (nI 0) p0 q0 r0 mu zz)), (o 5, .inl (dA 1, 2640, .inr (.inl fA))), (o 6, .inl (dA 1, 32, .inr (.inl fM)))]) [0, 1, 2] (by decide) rfl).self⟩) rfl rfl hl.1 rfl (lv_room (Nat.le_of_ble_eq_true rfl)) dX7_setCoefficient_69 ⟨by first | decide | omega, by first | decide | omega⟩) hP hD hS hA [0, 1, 2] [] rfl rfl (by decide) (by decide) (fun u9 H locs hq hX hz hk hP hD hS => ?_)
          have hP : va_P (dC, dI) vwCl [(o 0, .inr (2, mFs o (nI 0) p0 q0 r0 1 zz)), (o 5, .inl (dA 1, 2640, .inr (.inl fA))), (o 6, .inl (dA 1, 32, .inr (.inl (fun _ => 0))))] H := hP
          have hD : va_D A [(o 0, .inr (2, mFs o (nI 0) p0 q0 r0 1 zz)), (o 5, .inl (dA 1, 2640, .inr (.inl fA))), (o 6, .inl (dA 1, 32, .inr (.inl (fun _ => 0))))] := hD
          refine lv_iconst (v := nI 0) hx hb dX7_setCoefficient_72 (by decide) ?_
          refine lv_istore (lv' := [(6, .int (nI 0)), (5, .int (nI 1)), (0, .ref (o 0)), (1, .int (nI jt)), (2, .int (nI jb)), (3, .int x), (4, .int y)]) hx hb dX7_setCoefficient_73 hl (by decide) rfl (fun ls hl => ?_)
          have e9 : (fun _ => 0 : Nat → Int64) = (wrS (fun _ => 0) 0 0 (fun j => Ms jt (j + 1) * y.toInt64)) := (wr_0 _ _ _).symm
          rw [e9] at hP hD; clear e9
          have loop_1 : ∀ (n9_1 : Nat) (k : Nat) (H : Heap) (locs : List Loc) (ls : Array Slot), 32 - k < n9_1 → (k ≤ 32) → va_P (dC, dI) vwCl [(o 0, .inr (2, mFs o (nI 0) p0 q0 r0 1 zz)), (o 5, .inl (dA 1, 2640, .inr (.inl fA))), (o 6, .inl (dA 1, 32, .inr (.inl (wrS (fun _ => 0) 0 k (fun j => Ms jt (j + 1) * y.toInt64)))))] H → va_D A [(o 0, .inr (2, mFs o (nI 0) p0 q0 r0 1 zz)), (o 5, .inl (dA 1, 2640, .inr (.inl fA))), (o 6, .inl (dA 1, 32, .inr (.inl (wrS (fun _ => 0) 0 k (fun j => Ms jt (j + 1) * y.toInt64)))))] → va_S A s.heap H locs → lv_has ls 7 [(0, .ref (o 0)), (1, .int (nI jt)), (2, .int (nI jb)), (3, .int x), (4, .int y), (5, .int (nI 1)), (6, .int (nI k))] → W p l e ({ frames := 4, cells := 0, slots := 0, locals := 240 } : Room) s m args below meth c H locs 0 0 Q (F0 m 75 ls []) := by
            intro n9_1
            induction n9_1 with
            | zero => intro k H locs ls hm_1; exact absurd hm_1 (Nat.not_lt_zero _)
            | succ n9_1 ih_1 =>
              intro k H locs ls hm_1 hk9 hP hD hS hl
              refine lv_iload hx hb dX7_setCoefficient_75 (lv_at hl 6 rfl) ?_
              refine lv_bipush (v := nI 32) hx hb dX7_setCoefficient_77 (by decide) ?_
              refine lv_icmp_ge (tgt := 106) hx hb dX7_setCoefficient_79 (by decide) (fun c_79 => ?_) (fun c_79 => ?_)
              · have c_79 : 32 ≤ k := (nI_leI (a := 32) (b := k) (by omega) (by omega)).mp c_79
                obtain rfl : k = 32 := by omega
                refine lv_aload_n hx hb dX7_setCoefficient_106 rfl (lv_at hl 0 rfl) ?_
                refine va_get (D := (dC, dI)) (ci := 2) (v := .ref (o 6)) (C := RX7) (T := TX7) (N := 27) hx hb hts in_X7 hown hK hP 0 rfl rfl 9 (by decide) (hts _ q2015) (fun _ h9 => h9) rfl dX7_setCoefficient_107 ?_
                refine lv_iload_n hx hb dX7_setCoefficient_110 rfl (lv_at hl 2 rfl) ?_
                refine lv_iload_n hx hb dX7_setCoefficient_111 rfl (lv_at hl 3 rfl) ?_
                refine lv_i2l (v := x.toInt64) hx hb dX7_setCoefficient_112 rfl ?_
                refine lv_aload_n hx hb dX7_setCoefficient_113 rfl (lv_at hl 0 rfl) ?_
                refine lv_iload_n hx hb dX7_setCoefficient_114 rfl (lv_at hl 1 rfl) ?_
                refine s_l (va_runV (As := [.int (nI jt)]) (rest := [.long x.toInt64, .int (nI jb), .ref (o 6)]) ⟨hx, hb, hml, hown, hts⟩ (x7_under Z o (nI 0) p0 q0 r0 1 zz fA jt (by omega)) (cwV 1 hts (lw_V q2123 q2125 qs39 q107 q2126) rfl rfl rfl (by decide +kernel) ⟨Nat.le_of_ble_eq_true rfl, Nat.le_of_ble_eq_true rfl⟩) (gP_V (va_recv hK hP (ci := 2) (q0 := 0) rfl rfl) hG hS (fun q _ h => h.elim) (hP.sub (ws' := [(o 0, .inr (2, mFs o (nI 0) p0 q0 r0 1 zz)), (o 5, .inl (dA 1, 2640, .inr (.inl fA)))]) [0, 1] rfl)) rfl rfl hl.1 rfl (lv_room (Nat.le_of_ble_eq_true rfl)) dX7_setCoefficient_115 ⟨by first | decide | omega, by first | decide | omega⟩) ?_
                refine e_l (y := (Ms jt) 0) (hold_at (hR jt (by omega)) (i := 0) (by omega) (by omega)) ?_
                refine lv_lmul hx hb dX7_setCoefficient_118 ?_
                refine a_last hx hb hK hP hD hS 2 1 rfl rfl (by omega) (by omega) dX7_setCoefficient_119 (fun H locs hP hD hS => ?_)
                have hP : va_P (dC, dI) vwCl [(o 0, .inr (2, mFs o (nI 0) p0 q0 r0 1 zz)), (o 5, .inl (dA 1, 2640, .inr (.inl fA))), (o 6, .inl (dA 1, 32, .inr (.inl (vp_updL (wrS (fun _ => 0) 0 32 (fun j => Ms jt (j + 1) * y.toInt64)) jb (x.toInt64 * ((Ms jt) 0))))))] H := hP
                have hD : va_D A [(o 0, .inr (2, mFs o (nI 0) p0 q0 r0 1 zz)), (o 5, .inl (dA 1, 2640, .inr (.inl fA))), (o 6, .inl (dA 1, 32, .inr (.inl (vp_updL (wrS (fun _ => 0) 0 32 (fun j => Ms jt (j + 1) * y.toInt64)) jb (x.toInt64 * ((Ms jt) 0))))))] := hD
                have hP := P_L hP 2 (setR jb x.toInt64 y.toInt64 (Ms jt)) rfl (fun j hj => by by_cases h : j = jb; (subst h; rw [pk_uLs]; unfold setR; rw [if_pos rfl]); (rw [pk_uLn h, wr_in (by omega) (by omega)]; unfold setR; rw [if_neg h]; rfl))
                have hD := va_D.set (e := .inl (dA 1, 32, .inr (.inl (setR jb x.toInt64 y.toInt64 (Ms jt))))) hD (p := 2) rfl
                have hP : va_P (dC, dI) vwCl [(o 0, .inr (2, mFs o (nI 0) p0 q0 r0 1 zz)), (o 5, .inl (dA 1, 2640, .inr (.inl fA))), (o 6, .inl (dA 1, 32, .inr (.inl (setR jb x.toInt64 y.toInt64 (Ms jt)))))] H := hP
                have hD : va_D A [(o 0, .inr (2, mFs o (nI 0) p0 q0 r0 1 zz)), (o 5, .inl (dA 1, 2640, .inr (.inl fA))), (o 6, .inl (dA 1, 32, .inr (.inl (setR jb x.toInt64 y.toInt64 (Ms jt)))))] := hD
                refine lv_aload_n hx hb dX7_setCoefficient_120 rfl (lv_at hl 0 rfl) ?_
                refine lv_aload_n hx hb dX7_setCoefficient_121 rfl (lv_at hl 0 rfl) ?_
                refine lv_iload_n hx hb dX7_setCoefficient_122 rfl (lv_at hl 1 rfl) ?_
                refine s_l (va_runV (As := [.int (nI jt)]) (rest := [.ref (o 0)]) ⟨hx, hb, hml, hown, hts⟩ (x7_under Z o (nI 0) p0 q0 r0 1 zz fA jt (by omega)) (cwV 1 hts (lw_V q2123 q2125 qs39 q107 q2126) rfl rfl rfl (by decide +kernel) ⟨Nat.le_of_ble_eq_true rfl, Nat.le_of_ble_eq_true rfl⟩) (gP_V (va_recv hK hP (ci := 2) (q0 := 0) rfl rfl) hG hS (fun q _ h => h.elim) (hP.sub (ws' := [(o 0, .inr (2, mFs o (nI 0) p0 q0 r0 1 zz)), (o 5, .inl (dA 1, 2640, .inr (.inl fA)))]) [0, 1] rfl)) rfl rfl hl.1 rfl (lv_room (Nat.le_of_ble_eq_true rfl)) dX7_setCoefficient_123 ⟨by first | decide | omega, by first | decide | omega⟩) ?_
                refine e_l (y := (Ms jt) 0) (hold_at (hR jt (by omega)) (i := 0) (by omega) (by omega)) ?_
                refine lv_iload hx hb dX7_setCoefficient_126 (lv_at hl 4 rfl) ?_
                refine lv_i2l (v := y.toInt64) hx hb dX7_setCoefficient_128 rfl ?_
                refine lv_lmul hx hb dX7_setCoefficient_129 ?_
                refine va_put (D := (dC, dI)) (ci := 2) (v := .long (((Ms jt) 0) * y.toInt64)) (ty := .long) (C := RX7) (T := TX7) (N := 27) hx hb hts in_X7 tyX7 tyX7_ok nmX7 hown hK hP hD hS 0 rfl rfl 10 (by decide) (hts _ q2016) (fun _ h9 => h9) rfl (by decide +kernel) rfl rfl (Nat.le_of_ble_eq_true rfl) dX7_setCoefficient_130 (fun H locs hP hD hS => ?_)
                have hP : va_P (dC, dI) vwCl [(o 0, .inr (2, mFs o (nI 0) p0 q0 r0 (((Ms jt) 0) * y.toInt64) zz)), (o 5, .inl (dA 1, 2640, .inr (.inl fA))), (o 6, .inl (dA 1, 32, .inr (.inl (setR jb x.toInt64 y.toInt64 (Ms jt)))))] H := hP
                have hD : va_D A [(o 0, .inr (2, mFs o (nI 0) p0 q0 r0 (((Ms jt) 0) * y.toInt64) zz)), (o 5, .inl (dA 1, 2640, .inr (.inl fA))), (o 6, .inl (dA 1, 32, .inr (.inl (setR jb x.toInt64 y.toInt64 (Ms jt)))))] := hD
                refine lv_aload_n hx hb dX7_setCoefficient_133 rfl (lv_at hl 0 rfl) ?_
                refine lv_aload_n hx hb dX7_setCoefficient_134 rfl (lv_at hl 0 rfl) ?_
                refine lv_iload_n hx hb dX7_setCoefficient_135 rfl (lv_at hl 1 rfl) ?_
                have hF9 := va_free (wc := [(o 0, .inr (2, mFs o (nI 0) p0 q0 r0 (((Ms jt) 0) * y.toInt64) zz)), (o 5, .inl (dA 1, 2640, .inr (.inl fA))), (o 6, .inl (dA 1, 32, .inr (.inl (setR jb x.toInt64 y.toInt64 (Ms jt)))))]) hD hS (fun q h => hA q h) [0, 1, 2] rfl
                refine c_i (wr := []) (va_runV (As := [.int (nI jt)]) (rest := [.ref (o 0)]) ⟨hx, hb, hml, hown, hts⟩ (x7_puts Z (va_A [(o 0, .inr (2, mFs o (nI 0) p0 q0 r0 (((Ms jt) 0) * y.toInt64) zz)), (o 5, .inl (dA 1, 2640, .inr (.inl fA))), (o 6, .inl (dA 1, 32, .inr (.inl (setR jb x.toInt64 y.toInt64 (Ms jt)))))] H.size) H.size (fun q h => Or.inr h) o (nI 0) p0 q0 r0 (((Ms jt) 0) * y.toInt64) zz fA (setR jb x.toInt64 y.toInt64 (Ms jt)) jt (by omega) (mul_pos8 ⟨(sR jt (by omega)).1, (sR jt (by omega)).2.1⟩ (inB_pos hb_49)) (fun j hj => setR_nm (smallB_iff.mp hb_37) (inB_10k1 hb_49).1 (sR jt (by omega)) hj)) (cwV 1 hts (lw_V q2127 q2129 qs40 q107 q2130) rfl rfl rfl (by decide +kernel) ⟨Nat.le_of_ble_eq_true rfl, Nat.le_of_ble_eq_true rfl⟩) (gP_V (va_recv hK hP (ci := 2) (q0 := 0) rfl rfl) hG hS (fun q _ h => hF9 q h) ⟨rfl, (hP.sub (ws' := [(o 0, .inr (2, mFs o (nI 0) p0 q0 r0 (((Ms jt) 0) * y.toInt64) zz)), (o 5, .inl (dA 1, 2640, .inr (.inl fA))), (o 6, .inl (dA 1, 32, .inr (.inl (setR jb x.toInt64 y.toInt64 (Ms jt)))))]) [0, 1, 2] rfl), (hD.sub (ws' := [(o 0, .inr (2, mFs o (nI 0) p0 q0 r0 (((Ms jt) 0) * y.toInt64) zz)), (o 5, .inl (dA 1, 2640, .inr (.inl fA))), (o 6, .inl (dA 1, 32, .inr (.inl (setR jb x.toInt64 y.toInt64 (Ms jt)))))]) [0, 1, 2] (by decide) rfl).self⟩) rfl rfl hl.1 rfl (lv_room (Nat.le_of_ble_eq_true rfl)) dX7_setCoefficient_136 ⟨by first | decide | omega, by first | decide | omega⟩) hP hD hS hA [0, 1, 2] [] rfl rfl (by decide) (by decide) (fun r9 u9 H locs hq hX hz hk hP hD hS => ?_)
                obtain ⟨fA_2, fM_3, mu_4⟩ := u9
                obtain ⟨r_5, rfl⟩ : ∃ z, z = r9 := ⟨_, rfl⟩
                have hq_6 := hq
                try dsimp only at hq_6
                have hP : va_P (dC, dI) vwCl [(o 0, .inr (2, mFs o (nI 0) p0 q0 r0 mu_4 zz)), (o 5, .inl (dA 1, 2640, .inr (.inl fA_2))), (o 6, .inl (dA 1, 32, .inr (.inl fM_3)))] H := hP
                have hD : va_D A [(o 0, .inr (2, mFs o (nI 0) p0 q0 r0 mu_4 zz)), (o 5, .inl (dA 1, 2640, .inr (.inl fA_2))), (o 6, .inl (dA 1, 32, .inr (.inl fM_3)))] := hD
                rcases hq_6.cases with ⟨P_7, e_7, rfl, hH_7, hS_7⟩ | ⟨e_7, rfl, hE_7⟩
                · have sm_8 : MSm P_7 := fitS_sm (mul_pos8 ⟨(sR jt (by omega)).1, (sR jt (by omega)).2.1⟩ (inB_pos hb_49)) e_7
                  refine lv_if_eq (tgt := 146) hx hb dX7_setCoefficient_139 (by decide) (fun c_139 => ?_) (fun c_139 => ?_)
                  · exact absurd c_139 (by decide)
                  refine lv_iconst (v := nI 0) hx hb dX7_setCoefficient_142 (by decide) ?_
                  refine lv_goto (tgt := 147) hx hb dX7_setCoefficient_143 (by decide) ?_
                  refine va_put (D := (dC, dI)) (ci := 2) (v := .int (nI 0)) (ty := .int) (C := RX7) (T := TX7) (N := 27) hx hb hts in_X7 tyX7 tyX7_ok nmX7 hown hK hP hD hS 0 rfl rfl 0 (by decide) (hts _ q2006) (fun _ h9 => h9) rfl (by decide +kernel) rfl rfl (Nat.le_of_ble_eq_true rfl) dX7_setCoefficient_147 (fun H locs hP hD hS => ?_)
                  have hP : va_P (dC, dI) vwCl [(o 0, .inr (2, mFs o (nI 0) p0 q0 r0 mu_4 zz)), (o 5, .inl (dA 1, 2640, .inr (.inl fA_2))), (o 6, .inl (dA 1, 32, .inr (.inl fM_3)))] H := hP
                  have hD : va_D A [(o 0, .inr (2, mFs o (nI 0) p0 q0 r0 mu_4 zz)), (o 5, .inl (dA 1, 2640, .inr (.inl fA_2))), (o 6, .inl (dA 1, 32, .inr (.inl fM_3)))] := hD
                  subst hQe
                  exact W.vret hx hb hr (fun t ht hW => ⟨⟨(fA_2, fM_3, mu_4, nI 0), rfl, (by rw [rg_n (show jt < 8 by omega)]; exact VPost.mk1 (P := P_7) (by simp [setX, rgB, blB, optC, h_t, h_b, hb_37, hb_49, e_7, rg_n (show jt < 8 by omega), nI_clamp (show jt < 2 ^ 31 by omega), nI_clamp (show jb < 2 ^ 31 by omega)]) hH_7 (fun k9 hk9 i9 hi9 => by (try dsimp only [outH] at hk9); show fA_2 (33 * k9 + i9) = fA (33 * k9 + i9); rw [hS_7 _ (by omega)])), B1_at ht (hP.sub [0, 1, 2] rfl) (hD.sub [0, 1, 2] (by decide) rfl) trivial⟩, hS.F ht⟩) hS.2.2 dX7_setCoefficient_150
                · have hh_9 : Hold fA_2 jt (Ms jt) := by rw [hE_7]; exact (hR jt (by omega))
                  refine lv_if_eq (tgt := 146) hx hb dX7_setCoefficient_139 (by decide) (fun c_139 => ?_) (fun c_139 => ?_)
                  rotate_left
                  · exact absurd (by decide) c_139
                  refine lv_iconst (v := nI 3) hx hb dX7_setCoefficient_146 (by decide) ?_
                  refine va_put (D := (dC, dI)) (ci := 2) (v := .int (nI 3)) (ty := .int) (C := RX7) (T := TX7) (N := 27) hx hb hts in_X7 tyX7 tyX7_ok nmX7 hown hK hP hD hS 0 rfl rfl 0 (by decide) (hts _ q2006) (fun _ h9 => h9) rfl (by decide +kernel) rfl rfl (Nat.le_of_ble_eq_true rfl) dX7_setCoefficient_147 (fun H locs hP hD hS => ?_)
                  have hP : va_P (dC, dI) vwCl [(o 0, .inr (2, mFs o (nI 3) p0 q0 r0 mu_4 zz)), (o 5, .inl (dA 1, 2640, .inr (.inl fA_2))), (o 6, .inl (dA 1, 32, .inr (.inl fM_3)))] H := hP
                  have hD : va_D A [(o 0, .inr (2, mFs o (nI 3) p0 q0 r0 mu_4 zz)), (o 5, .inl (dA 1, 2640, .inr (.inl fA_2))), (o 6, .inl (dA 1, 32, .inr (.inl fM_3)))] := hD
                  subst hQe
                  exact W.vret hx hb hr (fun t ht hW => ⟨⟨(fA_2, fM_3, mu_4, nI 3), rfl, VPost.mk0 (c := nI 3) (by simp [setX, rgB, blB, optC, h_t, h_b, hb_37, hb_49, e_7, rg_n (show jt < 8 by omega), nI_clamp (show jt < 2 ^ 31 by omega), nI_clamp (show jb < 2 ^ 31 by omega)]) (fun k9 hk9 i9 hi9 => by (try dsimp only [outH] at hk9); show fA_2 (33 * k9 + i9) = fA (33 * k9 + i9); rw [hE_7]), B1_at ht (hP.sub [0, 1, 2] rfl) (hD.sub [0, 1, 2] (by decide) rfl) trivial⟩, hS.F ht⟩) hS.2.2 dX7_setCoefficient_150
              · have c_79 : ¬ 32 ≤ k := fun h => c_79 ((nI_leI (a := 32) (b := k) (by omega) (by omega)).mpr h)
                refine lv_aload_n hx hb dX7_setCoefficient_82 rfl (lv_at hl 0 rfl) ?_
                refine va_get (D := (dC, dI)) (ci := 2) (v := .ref (o 6)) (C := RX7) (T := TX7) (N := 27) hx hb hts in_X7 hown hK hP 0 rfl rfl 9 (by decide) (hts _ q2015) (fun _ h9 => h9) rfl dX7_setCoefficient_83 ?_
                refine lv_iload hx hb dX7_setCoefficient_86 (lv_at hl 6 rfl) ?_
                refine lv_aload_n hx hb dX7_setCoefficient_88 rfl (lv_at hl 0 rfl) ?_
                refine lv_iload_n hx hb dX7_setCoefficient_89 rfl (lv_at hl 1 rfl) ?_
                refine lv_iload hx hb dX7_setCoefficient_90 (lv_at hl 6 rfl) ?_
                refine s_l (va_runV (As := [.int (nI jt), .int (nI k)]) (rest := [.int (nI k), .ref (o 6)]) ⟨hx, hb, hml, hown, hts⟩ (x7_of Z o (nI 0) p0 q0 r0 1 zz fA jt k (by omega)) (cwV 2 hts (lw_V q2119 q2121 qs38 q107 q2122) rfl rfl rfl (by decide +kernel) ⟨Nat.le_of_ble_eq_true rfl, Nat.le_of_ble_eq_true rfl⟩) (gP_V (va_recv hK hP (ci := 2) (q0 := 0) rfl rfl) hG hS (fun q _ h => h.elim) (hP.sub (ws' := [(o 0, .inr (2, mFs o (nI 0) p0 q0 r0 1 zz)), (o 5, .inl (dA 1, 2640, .inr (.inl fA)))]) [0, 1] rfl)) rfl rfl hl.1 rfl (lv_room (Nat.le_of_ble_eq_true rfl)) dX7_setCoefficient_92 ⟨by first | decide | omega, by first | decide | omega⟩) ?_
                refine e_l (y := (Ms jt) (k + 1)) (hold_at (hR jt (by omega)) (i := k + 1) (by omega) (by omega)) ?_
                refine lv_iload hx hb dX7_setCoefficient_95 (lv_at hl 4 rfl) ?_
                refine lv_i2l (v := y.toInt64) hx hb dX7_setCoefficient_97 rfl ?_
                refine lv_lmul hx hb dX7_setCoefficient_98 ?_
                refine a_last hx hb hK hP hD hS 2 1 rfl rfl (by omega) (by omega) dX7_setCoefficient_99 (fun H locs hP hD hS => ?_)
                have hP : va_P (dC, dI) vwCl [(o 0, .inr (2, mFs o (nI 0) p0 q0 r0 1 zz)), (o 5, .inl (dA 1, 2640, .inr (.inl fA))), (o 6, .inl (dA 1, 32, .inr (.inl (vp_updL (wrS (fun _ => 0) 0 k (fun j => Ms jt (j + 1) * y.toInt64)) k (((Ms jt) (k + 1)) * y.toInt64)))))] H := hP
                have hD : va_D A [(o 0, .inr (2, mFs o (nI 0) p0 q0 r0 1 zz)), (o 5, .inl (dA 1, 2640, .inr (.inl fA))), (o 6, .inl (dA 1, 32, .inr (.inl (vp_updL (wrS (fun _ => 0) 0 k (fun j => Ms jt (j + 1) * y.toInt64)) k (((Ms jt) (k + 1)) * y.toInt64)))))] := hD
                have e9 : (vp_updL (wrS (fun _ => 0) 0 k (fun j => Ms jt (j + 1) * y.toInt64)) k (((Ms jt) (k + 1)) * y.toInt64) : Nat → Int64) = (wrS (fun _ => 0) 0 (k + 1) (fun j => Ms jt (j + 1) * y.toInt64)) := wr_s (by omega) rfl
                rw [e9] at hP hD; clear e9
                refine lv_iinc (v := nI (k + 1)) (lv' := [(6, .int (nI (k + 1))), (0, .ref (o 0)), (1, .int (nI jt)), (2, .int (nI jb)), (3, .int x), (4, .int y), (5, .int (nI 1))]) hx hb dX7_setCoefficient_100 hl (k := 6) rfl (by exact nI_add _ 1) (by decide) rfl (fun ls hl => ?_)
                refine lv_goto (tgt := 75) hx hb dX7_setCoefficient_103 (by decide) ?_
                exact ih_1 (k + 1) H locs ls (by omega) (by omega) (hP.sub [0, 1, 2] rfl) (hD.sub [0, 1, 2] (by decide) rfl) hS (lv_sub hl [1, 2, 3, 4, 5, 6, 0] rfl)
          exact loop_1 _ 0 H locs ls (Nat.lt_succ_self _) (by omega) hP hD hS (lv_sub hl [2, 3, 4, 5, 6, 1, 0] rfl)
        · have hb_49 := bI_0 c_49
          refine lv_iconst (v := nI 2) hx hb dX7_setCoefficient_52 (by decide) ?_
          refine lv_goto (tgt := 57) hx hb dX7_setCoefficient_53 (by decide) ?_
          refine va_put (D := (dC, dI)) (ci := 2) (v := .int (nI 2)) (ty := .int) (C := RX7) (T := TX7) (N := 27) hx hb hts in_X7 tyX7 tyX7_ok nmX7 hown hK hP hD hS 0 rfl rfl 0 (by decide) (hts _ q2006) (fun _ h9 => h9) rfl (by decide +kernel) rfl rfl (Nat.le_of_ble_eq_true rfl) dX7_setCoefficient_57 (fun H locs hP hD hS => ?_)
          have hP : va_P (dC, dI) vwCl [(o 0, .inr (2, mFs o (nI 2) p0 q0 r0 mu zz)), (o 5, .inl (dA 1, 2640, .inr (.inl fA))), (o 6, .inl (dA 1, 32, .inr (.inl fM)))] H := hP
          have hD : va_D A [(o 0, .inr (2, mFs o (nI 2) p0 q0 r0 mu zz)), (o 5, .inl (dA 1, 2640, .inr (.inl fA))), (o 6, .inl (dA 1, 32, .inr (.inl fM)))] := hD
          refine lv_aload_n hx hb dX7_setCoefficient_60 rfl (lv_at hl 1 rfl) ?_
          refine va_get (D := (dC, dI)) (ci := 2) (v := .int (nI 2)) (C := RX7) (T := TX7) (N := 27) hx hb hts in_X7 hown hK hP 0 rfl rfl 0 (by decide) (hts _ q2006) (fun _ h9 => h9) rfl dX7_setCoefficient_61 ?_
          refine lv_if_le (tgt := 68) hx hb dX7_setCoefficient_64 (by decide) (fun c_64 => ?_) (fun c_64 => ?_)
          · exact absurd c_64 (by decide)
          subst hQe
          exact W.vret hx hb hr (fun t ht hW => ⟨⟨(fA, fM, mu, nI 2), rfl, VPost.mk0 (c := nI 2) (by simp [setX, rgB, blB, optC, h_t, h_b, hb_37, hb_49, rg_n (show jt < 8 by omega), nI_clamp (show jt < 2 ^ 31 by omega), nI_clamp (show jb < 2 ^ 31 by omega)]) (fun k9 hk9 i9 hi9 => rfl), B1_at ht (hP.sub [0, 1, 2] rfl) (hD.sub [0, 1, 2] (by decide) rfl) trivial⟩, hS.F ht⟩) hS.2.2 dX7_setCoefficient_67
set_option maxHeartbeats 4000000 in
theorem x7_thrown {l : Launch} {dC : Nat → ClassId} {dI : Nat → Nat → Nat} {dA : Nat → ClassId} {s0 : State} {b0 : Addr} (Z : Z0 l dC dI dA s0 b0) (o : Nat → Nat) (th : Int32) (p0 q0 r0 : Nat) (mu : Int64) (zz : Nat → Int32) : Met l yX7_thrown (ws_ yX7_thrown cX7_thrown 1 (some .int)) ({ frames := 1, cells := 0, slots := 0, locals := 60 } : Room) (gP [.ref (o 0)] s0 (fun _ => False) (fun H => va_P (dC, dI) vwCl [(o 0, .inr (2, mFs o th p0 q0 r0 mu zz))] H)) (vp_Si (fun r => r = th)) 0 0 (fun _ => False) := by
  refine Met.ofW (cc := cX7_thrown) (maxL := 1) (ret := (some .int)) (by decide) rfl ?_
  intro p e s m args below meth c s₁ B hml hv
  obtain ⟨hav, hG, hP⟩ := hv
  have hx := B.exec
  have hb := B.bytes
  have hr := B.returns
  have hts := atoms_spec (ws := (ws_ yX7_thrown cX7_thrown 1 (some .int))) B.pre
  have hts : ∀ w ∈ lw_all, w.before _ s = true := fun w h => hts w (List.mem_cons_of_mem _ h)
  have hown : s.vm.findClass RX7 = some m.cls := findClass_of_methodNamed B.named
  have hlocks := B.notSynchronized
  have hK := hG.K Z
  have hS : va_S (fun _ => False) s.heap s.heap [] := va_S.rf
  have hl := lv_entry ([.ref (o 0)]) (n := 1) (Nat.le_of_ble_eq_true rfl)
  rw [show entryFrame m args 1 = entryFrame m ([.ref (o 0)] : List Value).toArray 1 from by rw [hav], lg_entry_eq]
  generalize (lg_sl ([.ref (o 0)]) ++ List.replicate (1 - (lg_sl ([.ref (o 0)])).length) Slot.unset).toArray = ls at hl ⊢
  have hl : lv_has ls 1 [(0, .ref (o 0))] := hl
  generalize hQe : MQ below _ _ s _ _ _ = Q
  change W p l e ({ frames := 1, cells := 0, slots := 0, locals := 60 } : Room) s m args below meth c s.heap [] 0 0 Q (F0 m 0 ls [])
  refine lv_aload_n hx hb dX7_thrown_0 rfl (lv_at hl 0 rfl) ?_
  refine va_get (D := (dC, dI)) (ci := 2) (v := .int th) (C := RX7) (T := TX7) (N := 27) hx hb hts in_X7 hown hK hP 0 rfl rfl 0 (by decide) (hts _ q2006) (fun _ h9 => h9) rfl dX7_thrown_1 ?_
  subst hQe
  exact W.iret (v := th) hx hb hr (fun t ht hW => ⟨_, rfl, rfl, ht⟩) hS.2.2 dX7_thrown_4
