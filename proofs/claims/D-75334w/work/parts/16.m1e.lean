theorem inB_10k {x : Int32} (h : inB x (-10000) (nI 10000) = true) : sm8 x.toInt64 := by
  unfold inB at h
  rw [Bool.and_eq_true, decide_eq_true_iff, decide_eq_true_iff, Int32.le_iff_toInt_le, Int32.le_iff_toInt_le, nI_toInt (by decide), show (-10000 : Int32).toInt = -10000 from by decide] at h
  unfold sm8; rw [i2l_toInt]; omega
theorem inB_10k1 {x : Int32} (h : inB x (nI 1) (nI 10000) = true) : sm8 x.toInt64 ∧ x.toInt64 ≠ 0 := by
  unfold inB at h
  rw [Bool.and_eq_true, decide_eq_true_iff, decide_eq_true_iff, Int32.le_iff_toInt_le, Int32.le_iff_toInt_le, nI_toInt (by decide), nI_toInt (by decide)] at h
  refine ⟨?_, fun e => ?_⟩
  · unfold sm8; rw [i2l_toInt]; omega
  · have : x.toInt64.toInt = (0 : Int64).toInt := by rw [e]
    rw [i2l_toInt] at this
    simp at this
    omega
theorem sndS_sm {p q r : Nat} (hn : p + q + r ≤ 5) {V M P : MV} (hV : MSm V) (hM : MSm M) (e : sndS p q r V M = some P) : MSm P := by
  unfold sndS at e
  split at e
  · cases e
  · rename_i A eA
    refine mulS_sm (mulS_sm hV ?_ eA) (trnS_sm hn hV) e
    split
    · exact hM
    · exact trnS_sm hn hM
theorem numM_sm {v : Int64} (h : sm8 v) : MSm (numM v) := by
  refine ⟨by show 0 < (1 : Int64).toInt; decide, by show (1 : Int64).toInt ≤ _; decide, fun j hj => ?_⟩
  show _ ≤ (if j + 1 = 0 then (1 : Int64) else if j + 1 = 1 then v else 0).toInt ∧ (if j + 1 = 0 then (1 : Int64) else if j + 1 = 1 then v else 0).toInt ≤ _
  rw [if_neg (by omega)]
  split
  · exact h
  · decide
theorem num_hold {f : Nat → Int64} {k : Nat} {v : Int64} (h : Hold f k (numM 0)) : Hold (vp_updL f (33 * k + 1) v) k (numM v) := fun i hi => by
  by_cases h1 : i = 1
  · subst h1; exact pk_uLs
  · rw [pk_uLn (by omega), h i hi]
    unfold numM
    by_cases h0 : i = 0
    · rw [if_pos h0, if_pos h0]
    · rw [if_neg h0, if_neg h0, if_neg h1, if_neg h1]
theorem powS_none {p q r : Nat} {M : MV} {n m : Nat} (h : powS p q r M n = none) (hm : n ≤ m) : powS p q r M m = none := by
  induction hm with
  | refl => exact h
  | step _ ih =>
    show (match powS p q r M _ with | none => none | some P => mulS 2 p q r P M) = none
    rw [ih]
set_option maxHeartbeats 4000000 in
theorem x7_change {l : Launch} {dC : Nat → ClassId} {dI : Nat → Nat → Nat} {dA : Nat → ClassId} {s0 : State} {b0 : Addr} (Z : Z0 l dC dI dA s0 b0) (A : Nat → Prop) (sz : Nat) (hA : ∀ q : Nat, sz ≤ q → A q) (o : Nat → Nat) (th : Int32) (p0 q0 r0 : Nat) (mu : Int64) (zz : Nat → Int32) (fA fM : Nat → Int64) (Ms : Nat → MV) (xop : Int32) (t : Int32) (a : Int32) (hn : p0 + q0 + r0 ≤ 5) (hR : ∀ k, k < 8 → Hold fA k (Ms k)) (sR : ∀ k, k < 8 → MSm (Ms k)) : Met l yX7_change (ws_ yX7_change cX7_change 4 (some .int)) ({ frames := 7, cells := 0, slots := 0, locals := 420 } : Room) (gP [.ref (o 0), .int xop, .int t, .int a] s0 A (fun H => H.size = sz ∧ va_P (dC, dI) vwCl [(o 0, .inr (2, mFs o th p0 q0 r0 mu zz)), (o 5, .inl (dA 1, 2640, .inr (.inl fA))), (o 6, .inl (dA 1, 32, .inr (.inl fM)))] H ∧ va_D A [(o 0, .inr (2, mFs o th p0 q0 r0 mu zz)), (o 5, .inl (dA 1, 2640, .inr (.inl fA))), (o 6, .inl (dA 1, 32, .inr (.inl fM)))])) (va_Qi (S := (Nat → Int64) × (Nat → Int64) × Int64 × Int32) (fun r u => ModPost fA (rg t) (chgX p0 q0 r0 Ms xop t a) u.2.2.2 r u.1) (B1 (dC, dI) A (fun u => mC dA o u.2.2.2 p0 q0 r0 u.2.2.1 zz u.1 u.2.1) (fun _ _ => True)) A) 0 0 A := by
  refine Met.ofW (cc := cX7_change) (maxL := 4) (ret := (some .int)) (by decide) rfl ?_
  intro p e s m args below meth c s₁ B hml hv
  obtain ⟨hav, hG, hsz, hP, hD⟩ := hv
  have hx := B.exec
  have hb := B.bytes
  have hr := B.returns
  have hts := atoms_spec (ws := (ws_ yX7_change cX7_change 4 (some .int))) B.pre
  have hts : ∀ w ∈ lw_all, w.before _ s = true := fun w h => hts w (List.mem_cons_of_mem _ h)
  have hown : s.vm.findClass RX7 = some m.cls := findClass_of_methodNamed B.named
  have hlocks := B.notSynchronized
  have hK := hG.K Z
  subst hsz
  have hS : va_S A s.heap s.heap [] := va_S.rf
  have hl := lv_entry ([.ref (o 0), .int xop, .int t, .int a]) (n := 4) (Nat.le_of_ble_eq_true rfl)
  rw [show entryFrame m args 4 = entryFrame m ([.ref (o 0), .int xop, .int t, .int a] : List Value).toArray 4 from by rw [hav], lg_entry_eq]
  generalize (lg_sl ([.ref (o 0), .int xop, .int t, .int a]) ++ List.replicate (4 - (lg_sl ([.ref (o 0), .int xop, .int t, .int a])).length) Slot.unset).toArray = ls at hl ⊢
  have hl : lv_has ls 4 [(0, .ref (o 0)), (1, .int xop), (2, .int t), (3, .int a)] := hl
  generalize hQe : MQ below _ _ s _ _ _ = Q
  change W p l e ({ frames := 7, cells := 0, slots := 0, locals := 420 } : Room) s m args below meth c s.heap [] 0 0 Q (F0 m 0 ls [])
  refine lv_iload_n hx hb dX7_change_0 rfl (lv_at hl 1 rfl) ?_
  refine lv_iconst (v := nI 0) hx hb dX7_change_1 (by decide) ?_
  refine lv_bipush (v := nI 9) hx hb dX7_change_2 (by decide) ?_
  refine s_i (va_runS (As := [.int xop, .int (nI 0), .int (nI 9)]) (rest := []) ⟨hx, hb, hml, hown, hts⟩ (x7_in Z xop (nI 0) (nI 9)) (va_cwS 3 hts (lw_S q2097 q2098 q107 q2099) rfl rfl rfl (by decide +kernel) ⟨Nat.le_of_ble_eq_true rfl, Nat.le_of_ble_eq_true rfl⟩) (gP_S hG hS (fun q _ h => h.elim) trivial) rfl rfl hl.1 rfl (lv_room (Nat.le_of_ble_eq_true rfl)) dX7_change_4 ⟨by first | decide | omega, by first | decide | omega⟩) ?_
  refine lv_if_ne (tgt := 16) hx hb dX7_change_7 (by decide) (fun c_7 => ?_) (fun c_7 => ?_)
  · have h_xop := bI_1 c_7
    obtain ⟨jxop, hj_xop, rfl⟩ := inB_nat (by decide) h_xop
    refine lv_iload_n hx hb dX7_change_16 rfl (lv_at hl 2 rfl) ?_
    refine s_i (va_runS (As := [.int t]) (rest := []) ⟨hx, hb, hml, hown, hts⟩ (x7_isRegister Z t) (va_cwS 1 hts (lw_S q2104 q2105 q107 q2106) rfl rfl rfl (by decide +kernel) ⟨Nat.le_of_ble_eq_true rfl, Nat.le_of_ble_eq_true rfl⟩) (gP_S hG hS (fun q _ h => h.elim) trivial) rfl rfl hl.1 rfl (lv_room (Nat.le_of_ble_eq_true rfl)) dX7_change_17 ⟨by first | decide | omega, by first | decide | omega⟩) ?_
    refine lv_if_eq (tgt := 30) hx hb dX7_change_20 (by decide) (fun c_20 => ?_) (fun c_20 => ?_)
    · have h_t := bI_0 c_20
      refine lv_aload_n hx hb dX7_change_30 rfl (lv_at hl 0 rfl) ?_
      refine lv_iconst (v := nI 2) hx hb dX7_change_31 (by decide) ?_
      have hF9 := va_free (wc := [(o 0, .inr (2, mFs o th p0 q0 r0 mu zz))]) hD hS (fun q h => hA q h) [0] rfl
      refine c_i (wr := [(o 5, .inl (dA 1, 2640, .inr (.inl fA))), (o 6, .inl (dA 1, 32, .inr (.inl fM)))]) (va_runV (As := [.int (nI 2)]) (rest := []) ⟨hx, hb, hml, hown, hts⟩ (x7_refuses Z (va_A [(o 0, .inr (2, mFs o th p0 q0 r0 mu zz))] s.heap.size) s.heap.size (fun q h => Or.inr h) o th p0 q0 r0 mu zz (nI 2)) (cwV 1 hts (lw_V q2100 q2102 qs34 q107 q2103) rfl rfl rfl (by decide +kernel) ⟨Nat.le_of_ble_eq_true rfl, Nat.le_of_ble_eq_true rfl⟩) (gP_V (va_recv hK hP (ci := 2) (q0 := 0) rfl rfl) hG hS (fun q _ h => hF9 q h) ⟨rfl, (hP.sub (ws' := [(o 0, .inr (2, mFs o th p0 q0 r0 mu zz))]) [0] rfl), (hD.sub (ws' := [(o 0, .inr (2, mFs o th p0 q0 r0 mu zz))]) [0] (by decide) rfl).self⟩) rfl rfl hl.1 rfl (lv_room (Nat.le_of_ble_eq_true rfl)) dX7_change_32 ⟨by first | decide | omega, by first | decide | omega⟩) hP hD hS hA [0] [1, 2] rfl rfl (by decide) (by decide) (fun r9 u9 H locs hq hX hz hk hP hD hS => ?_)
      obtain ⟨r_1, rfl⟩ : ∃ z, z = r9 := ⟨_, rfl⟩
      obtain rfl := hq
      have hP : va_P (dC, dI) vwCl [(o 5, .inl (dA 1, 2640, .inr (.inl fA))), (o 6, .inl (dA 1, 32, .inr (.inl fM))), (o 0, .inr (2, mFs o (nI 2) p0 q0 r0 mu zz))] H := hP
      have hD : va_D A [(o 5, .inl (dA 1, 2640, .inr (.inl fA))), (o 6, .inl (dA 1, 32, .inr (.inl fM))), (o 0, .inr (2, mFs o (nI 2) p0 q0 r0 mu zz))] := hD
      subst hQe
      exact W.iret (v := nI 0) hx hb hr (fun t ht hW => ⟨⟨_, (fA, fM, mu, nI 2), rfl, ModPost.mk0 (c := nI 2) (by simp [chgX, rgB, optC, h_xop, h_t, nI_clamp (show jxop < 2 ^ 31 by omega)]) (fun k9 hk9 i9 hi9 => rfl), B1_at ht (hP.sub [2, 0, 1] rfl) (hD.sub [2, 0, 1] (by decide) rfl) trivial⟩, hS.F ht⟩) hS.2.2 dX7_change_35
    · have h_t := bI_1 c_20
      obtain ⟨jt, hj_t, rfl⟩ := inB_nat (by decide) h_t
      refine lv_iload_n hx hb dX7_change_23 rfl (lv_at hl 3 rfl) ?_
      refine s_i (va_runS (As := [.int a]) (rest := []) ⟨hx, hb, hml, hown, hts⟩ (x7_isRegister Z a) (va_cwS 1 hts (lw_S q2104 q2105 q107 q2106) rfl rfl rfl (by decide +kernel) ⟨Nat.le_of_ble_eq_true rfl, Nat.le_of_ble_eq_true rfl⟩) (gP_S hG hS (fun q _ h => h.elim) trivial) rfl rfl hl.1 rfl (lv_room (Nat.le_of_ble_eq_true rfl)) dX7_change_24 ⟨by first | decide | omega, by first | decide | omega⟩) ?_
      refine lv_if_ne (tgt := 36) hx hb dX7_change_27 (by decide) (fun c_27 => ?_) (fun c_27 => ?_)
      · have h_a := bI_1 c_27
        obtain ⟨ja, hj_a, rfl⟩ := inB_nat (by decide) h_a
        refine lv_iload_n hx hb dX7_change_36 rfl (lv_at hl 1 rfl) ?_
        refine lv_bipush (v := nI 9) hx hb dX7_change_37 (by decide) ?_
        refine lv_icmp_ne (tgt := 49) hx hb dX7_change_39 (by decide) (fun c_39 => ?_) (fun c_39 => ?_)
        · have c_39 : ¬ jxop = 9 := fun h => c_39 ((nI_eq (a := jxop) (b := 9) (by omega) (by omega)).mpr h)
          refine lv_iload_n hx hb dX7_change_49 rfl (lv_at hl 1 rfl) ?_
          refine lv_iconst (v := nI 5) hx hb dX7_change_50 (by decide) ?_
          refine lv_icmp_ne (tgt := 67) hx hb dX7_change_51 (by decide) (fun c_51 => ?_) (fun c_51 => ?_)
          · have c_51 : ¬ jxop = 5 := fun h => c_51 ((nI_eq (a := jxop) (b := 5) (by omega) (by omega)).mpr h)
            refine lv_aload_n hx hb dX7_change_67 rfl (lv_at hl 0 rfl) ?_
            refine lv_iload_n hx hb dX7_change_68 rfl (lv_at hl 1 rfl) ?_
            refine lv_iload_n hx hb dX7_change_69 rfl (lv_at hl 3 rfl) ?_
            refine lv_bipush (v := nI 24) hx hb dX7_change_70 (by decide) ?_
            have hF9 := va_free (wc := [(o 0, .inr (2, mFs o th p0 q0 r0 mu zz)), (o 5, .inl (dA 1, 2640, .inr (.inl fA))), (o 6, .inl (dA 1, 32, .inr (.inl fM)))]) hD hS (fun q h => hA q h) [0, 1, 2] rfl
            refine c_v (wr := []) (va_runV (As := [.int (nI jxop), .int (nI ja), .int (nI 24)]) (rest := []) ⟨hx, hb, hml, hown, hts⟩ (x7_turns Z (va_A [(o 0, .inr (2, mFs o th p0 q0 r0 mu zz)), (o 5, .inl (dA 1, 2640, .inr (.inl fA))), (o 6, .inl (dA 1, 32, .inr (.inl fM)))] s.heap.size) s.heap.size (fun q h => Or.inr h) o th p0 q0 r0 mu zz fA fM jxop ja 24 (Ms ja) hn (by omega) (by omega) (by omega) (hR ja (by omega)) (sR ja (by omega))) (cwV 3 hts (lw_V q2143 q2145 qs42 q107 q2146) rfl rfl rfl (by decide +kernel) ⟨Nat.le_of_ble_eq_true rfl, Nat.le_of_ble_eq_true rfl⟩) (gP_V (va_recv hK hP (ci := 2) (q0 := 0) rfl rfl) hG hS (fun q _ h => hF9 q h) ⟨rfl, (hP.sub (ws' := [(o 0, .inr (2, mFs o th p0 q0 r0 mu zz)), (o 5, .inl (dA 1, 2640, .inr (.inl fA))), (o 6, .inl (dA 1, 32, .inr (.inl fM)))]) [0, 1, 2] rfl), (hD.sub (ws' := [(o 0, .inr (2, mFs o th p0 q0 r0 mu zz)), (o 5, .inl (dA 1, 2640, .inr (.inl fA))), (o 6, .inl (dA 1, 32, .inr (.inl fM)))]) [0, 1, 2] (by decide) rfl).self⟩) rfl rfl hl.1 rfl (lv_room (Nat.le_of_ble_eq_true rfl)) dX7_change_72 ⟨by first | decide | omega, by first | decide | omega⟩) hP hD hS hA [0, 1, 2] [] rfl rfl (by decide) (by decide) (fun u9 H locs hq hX hz hk hP hD hS => ?_)
            obtain ⟨fA_2, fM_3, mu_4⟩ := u9
            have hq_5 := hq
            try dsimp only at hq_5
            have hP : va_P (dC, dI) vwCl [(o 0, .inr (2, mFs o th p0 q0 r0 mu_4 zz)), (o 5, .inl (dA 1, 2640, .inr (.inl fA_2))), (o 6, .inl (dA 1, 32, .inr (.inl fM_3)))] H := hP
            have hD : va_D A [(o 0, .inr (2, mFs o th p0 q0 r0 mu_4 zz)), (o 5, .inl (dA 1, 2640, .inr (.inl fA_2))), (o 6, .inl (dA 1, 32, .inr (.inl fM_3)))] := hD
            obtain ⟨hH_k_6, hS_k_6⟩ := hq_5
            have sm_7 := trnS_sm (op := jxop) (p := p0) (q := q0) (r := r0) (by omega) (sR ja (by omega))
            have hh_8 := hS_k_6.hold (j := jt) (by omega) (hR jt (by omega))
            have hh_9 := hS_k_6.hold (j := ja) (by omega) (hR ja (by omega))
            refine lv_aload_n hx hb dX7_change_75 rfl (lv_at hl 0 rfl) ?_
            refine lv_bipush (v := nI 24) hx hb dX7_change_76 (by decide) ?_
            refine lv_iload_n hx hb dX7_change_78 rfl (lv_at hl 2 rfl) ?_
            have hF9 := va_free (wc := [(o 0, .inr (2, mFs o th p0 q0 r0 mu_4 zz)), (o 5, .inl (dA 1, 2640, .inr (.inl fA_2)))]) hD hS (fun q h => hA q h) [0, 1] rfl
            refine c_i (wr := [(o 6, .inl (dA 1, 32, .inr (.inl fM_3)))]) (va_runV (As := [.int (nI 24), .int (nI jt)]) (rest := []) ⟨hx, hb, hml, hown, hts⟩ (x7_gives Z (va_A [(o 0, .inr (2, mFs o th p0 q0 r0 mu_4 zz)), (o 5, .inl (dA 1, 2640, .inr (.inl fA_2)))] H.size) H.size (fun q h => Or.inr h) o th p0 q0 r0 mu_4 zz fA_2 fM_3 24 jt (by omega) (by omega)) (cwV 2 hts (lw_V q2181 q2183 qs48 q107 q2184) rfl rfl rfl (by decide +kernel) ⟨Nat.le_of_ble_eq_true rfl, Nat.le_of_ble_eq_true rfl⟩) (gP_V (va_recv hK hP (ci := 2) (q0 := 0) rfl rfl) hG hS (fun q _ h => hF9 q h) ⟨rfl, (hP.sub (ws' := [(o 0, .inr (2, mFs o th p0 q0 r0 mu_4 zz)), (o 5, .inl (dA 1, 2640, .inr (.inl fA_2)))]) [0, 1] rfl), (hD.sub (ws' := [(o 0, .inr (2, mFs o th p0 q0 r0 mu_4 zz)), (o 5, .inl (dA 1, 2640, .inr (.inl fA_2)))]) [0, 1] (by decide) rfl).self⟩) rfl rfl hl.1 rfl (lv_room (Nat.le_of_ble_eq_true rfl)) dX7_change_79 ⟨by first | decide | omega, by first | decide | omega⟩) hP hD hS hA [0, 1] [2] rfl rfl (by decide) (by decide) (fun r9 u9 H locs hq hX hz hk hP hD hS => ?_)
            obtain ⟨r_10, rfl⟩ : ∃ z, z = r9 := ⟨_, rfl⟩
            obtain rfl := hq
            have hP : va_P (dC, dI) vwCl [(o 6, .inl (dA 1, 32, .inr (.inl fM_3))), (o 0, .inr (2, mFs o (nI 0) p0 q0 r0 mu_4 zz)), (o 5, .inl (dA 1, 2640, .inr (.inl (cpS fA_2 24 jt))))] H := hP
            have hD : va_D A [(o 6, .inl (dA 1, 32, .inr (.inl fM_3))), (o 0, .inr (2, mFs o (nI 0) p0 q0 r0 mu_4 zz)), (o 5, .inl (dA 1, 2640, .inr (.inl (cpS fA_2 24 jt))))] := hD
            have hc_12 := cpS_hold (t := jt) hH_k_6
            have hs_13 := cpS_same (fA := fA_2) (k := 24) (t := jt)
            generalize cpS fA_2 24 jt = fA_11 at hP hD hc_12 hs_13 ⊢
            have hh_14 := hs_13.hold (j := 24) (by omega) hH_k_6
            subst hQe
            exact W.iret (v := nI (cntN (fun j => fA_11 (33 * jt + 1 + j)) 32)) hx hb hr (fun t ht hW => ⟨⟨_, (fA_11, fM_3, mu_4, nI 0), rfl, (by rw [rg_n (show jt < 8 by omega)]; exact ModPost.mk1 (P := (trnS jxop p0 q0 r0 (Ms ja))) (by simp [chgX, rgB, optC, h_xop, h_t, h_a, c_39, c_51, rg_n (show jt < 8 by omega), rg_n (show ja < 8 by omega), nI_clamp (show jxop < 2 ^ 31 by omega), nI_clamp (show jt < 2 ^ 31 by omega), nI_clamp (show ja < 2 ^ 31 by omega)]) hc_12 (fun k9 hk9 i9 hi9 => by (try dsimp only [outH] at hk9); show fA_11 (33 * k9 + i9) = fA (33 * k9 + i9); rw [hs_13 _ (by omega), hS_k_6 _ (by omega)])), B1_at ht (hP.sub [1, 2, 0] rfl) (hD.sub [1, 2, 0] (by decide) rfl) trivial⟩, hS.F ht⟩) hS.2.2 dX7_change_82
          · have c_51 : jxop = 5 := (nI_eq (a := jxop) (b := 5) (by omega) (by omega)).mp c_51
            subst c_51
            refine lv_aload_n hx hb dX7_change_54 rfl (lv_at hl 0 rfl) ?_
            refine va_get (D := (dC, dI)) (ci := 2) (v := .int (nI r0)) (C := RX7) (T := TX7) (N := 27) hx hb hts in_X7 hown hK hP 0 rfl rfl 3 (by decide) (hts _ q2009) (fun _ h9 => h9) rfl dX7_change_55 ?_
            refine lv_if_le (tgt := 67) hx hb dX7_change_58 (by decide) (fun c_58 => ?_) (fun c_58 => ?_)
            · have c_58 : r0 ≤ 0 := (nI_leI (a := r0) (b := 0) (by omega) (by omega)).mp c_58
              refine lv_aload_n hx hb dX7_change_67 rfl (lv_at hl 0 rfl) ?_
              refine lv_iload_n hx hb dX7_change_68 rfl (lv_at hl 1 rfl) ?_
              refine lv_iload_n hx hb dX7_change_69 rfl (lv_at hl 3 rfl) ?_
              refine lv_bipush (v := nI 24) hx hb dX7_change_70 (by decide) ?_
              have hF9 := va_free (wc := [(o 0, .inr (2, mFs o th p0 q0 r0 mu zz)), (o 5, .inl (dA 1, 2640, .inr (.inl fA))), (o 6, .inl (dA 1, 32, .inr (.inl fM)))]) hD hS (fun q h => hA q h) [0, 1, 2] rfl
              refine c_v (wr := []) (va_runV (As := [.int (nI 5), .int (nI ja), .int (nI 24)]) (rest := []) ⟨hx, hb, hml, hown, hts⟩ (x7_turns Z (va_A [(o 0, .inr (2, mFs o th p0 q0 r0 mu zz)), (o 5, .inl (dA 1, 2640, .inr (.inl fA))), (o 6, .inl (dA 1, 32, .inr (.inl fM)))] s.heap.size) s.heap.size (fun q h => Or.inr h) o th p0 q0 r0 mu zz fA fM 5 ja 24 (Ms ja) hn (by omega) (by omega) (by omega) (hR ja (by omega)) (sR ja (by omega))) (cwV 3 hts (lw_V q2143 q2145 qs42 q107 q2146) rfl rfl rfl (by decide +kernel) ⟨Nat.le_of_ble_eq_true rfl, Nat.le_of_ble_eq_true rfl⟩) (gP_V (va_recv hK hP (ci := 2) (q0 := 0) rfl rfl) hG hS (fun q _ h => hF9 q h) ⟨rfl, (hP.sub (ws' := [(o 0, .inr (2, mFs o th p0 q0 r0 mu zz)), (o 5, .inl (dA 1, 2640, .inr (.inl fA))), (o 6, .inl (dA 1, 32, .inr (.inl fM)))]) [0, 1, 2] rfl), (hD.sub (ws' := [(o 0, .inr (2, mFs o th p0 q0 r0 mu zz)), (o 5, .inl (dA 1, 2640, .inr (.inl fA))), (o 6, .inl (dA 1, 32, .inr (.inl fM)))]) [0, 1, 2] (by decide) rfl).self⟩) rfl rfl hl.1 rfl (lv_room (Nat.le_of_ble_eq_true rfl)) dX7_change_72 ⟨by first | decide | omega, by first | decide | omega⟩) hP hD hS hA [0, 1, 2] [] rfl rfl (by decide) (by decide) (fun u9 H locs hq hX hz hk hP hD hS => ?_)
              obtain ⟨fA_15, fM_16, mu_17⟩ := u9
              have hq_18 := hq
              try dsimp only at hq_18
              have hP : va_P (dC, dI) vwCl [(o 0, .inr (2, mFs o th p0 q0 r0 mu_17 zz)), (o 5, .inl (dA 1, 2640, .inr (.inl fA_15))), (o 6, .inl (dA 1, 32, .inr (.inl fM_16)))] H := hP
              have hD : va_D A [(o 0, .inr (2, mFs o th p0 q0 r0 mu_17 zz)), (o 5, .inl (dA 1, 2640, .inr (.inl fA_15))), (o 6, .inl (dA 1, 32, .inr (.inl fM_16)))] := hD
              obtain ⟨hH_k_19, hS_k_19⟩ := hq_18
              have sm_20 := trnS_sm (op := 5) (p := p0) (q := q0) (r := r0) (by omega) (sR ja (by omega))
              have hh_21 := hS_k_19.hold (j := jt) (by omega) (hR jt (by omega))
              have hh_22 := hS_k_19.hold (j := ja) (by omega) (hR ja (by omega))
              refine lv_aload_n hx hb dX7_change_75 rfl (lv_at hl 0 rfl) ?_
              refine lv_bipush (v := nI 24) hx hb dX7_change_76 (by decide) ?_
              refine lv_iload_n hx hb dX7_change_78 rfl (lv_at hl 2 rfl) ?_
              have hF9 := va_free (wc := [(o 0, .inr (2, mFs o th p0 q0 r0 mu_17 zz)), (o 5, .inl (dA 1, 2640, .inr (.inl fA_15)))]) hD hS (fun q h => hA q h) [0, 1] rfl
              refine c_i (wr := [(o 6, .inl (dA 1, 32, .inr (.inl fM_16)))]) (va_runV (As := [.int (nI 24), .int (nI jt)]) (rest := []) ⟨hx, hb, hml, hown, hts⟩ (x7_gives Z (va_A [(o 0, .inr (2, mFs o th p0 q0 r0 mu_17 zz)), (o 5, .inl (dA 1, 2640, .inr (.inl fA_15)))] H.size) H.size (fun q h => Or.inr h) o th p0 q0 r0 mu_17 zz fA_15 fM_16 24 jt (by omega) (by omega)) (cwV 2 hts (lw_V q2181 q2183 qs48 q107 q2184) rfl rfl rfl (by decide +kernel) ⟨Nat.le_of_ble_eq_true rfl, Nat.le_of_ble_eq_true rfl⟩) (gP_V (va_recv hK hP (ci := 2) (q0 := 0) rfl rfl) hG hS (fun q _ h => hF9 q h) ⟨rfl, (hP.sub (ws' := [(o 0, .inr (2, mFs o th p0 q0 r0 mu_17 zz)), (o 5, .inl (dA 1, 2640, .inr (.inl fA_15)))]) [0, 1] rfl), (hD.sub (ws' := [(o 0, .inr (2, mFs o th p0 q0 r0 mu_17 zz)), (o 5, .inl (dA 1, 2640, .inr (.inl fA_15)))]) [0, 1] (by decide) rfl).self⟩) rfl rfl hl.1 rfl (lv_room (Nat.le_of_ble_eq_true rfl)) dX7_change_79 ⟨by first | decide | omega, by first | decide | omega⟩) hP hD hS hA [0, 1] [2] rfl rfl (by decide) (by decide) (fun r9 u9 H locs hq hX hz hk hP hD hS => ?_)
              obtain ⟨r_23, rfl⟩ : ∃ z, z = r9 := ⟨_, rfl⟩
              obtain rfl := hq
              have hP : va_P (dC, dI) vwCl [(o 6, .inl (dA 1, 32, .inr (.inl fM_16))), (o 0, .inr (2, mFs o (nI 0) p0 q0 r0 mu_17 zz)), (o 5, .inl (dA 1, 2640, .inr (.inl (cpS fA_15 24 jt))))] H := hP
              have hD : va_D A [(o 6, .inl (dA 1, 32, .inr (.inl fM_16))), (o 0, .inr (2, mFs o (nI 0) p0 q0 r0 mu_17 zz)), (o 5, .inl (dA 1, 2640, .inr (.inl (cpS fA_15 24 jt))))] := hD
              have hc_25 := cpS_hold (t := jt) hH_k_19
              have hs_26 := cpS_same (fA := fA_15) (k := 24) (t := jt)
              generalize cpS fA_15 24 jt = fA_24 at hP hD hc_25 hs_26 ⊢
              have hh_27 := hs_26.hold (j := 24) (by omega) hH_k_19
              subst hQe
              exact W.iret (v := nI (cntN (fun j => fA_24 (33 * jt + 1 + j)) 32)) hx hb hr (fun t ht hW => ⟨⟨_, (fA_24, fM_16, mu_17, nI 0), rfl, (by rw [rg_n (show jt < 8 by omega)]; exact ModPost.mk1 (P := (trnS 5 p0 q0 r0 (Ms ja))) (by simp [chgX, rgB, optC, h_xop, h_t, h_a, c_39, c_58, rg_n (show jt < 8 by omega), rg_n (show ja < 8 by omega), nI_clamp (show 5 < 2 ^ 31 by omega), nI_clamp (show jt < 2 ^ 31 by omega), nI_clamp (show ja < 2 ^ 31 by omega)]) hc_25 (fun k9 hk9 i9 hi9 => by (try dsimp only [outH] at hk9); show fA_24 (33 * k9 + i9) = fA (33 * k9 + i9); rw [hs_26 _ (by omega), hS_k_19 _ (by omega)])), B1_at ht (hP.sub [1, 2, 0] rfl) (hD.sub [1, 2, 0] (by decide) rfl) trivial⟩, hS.F ht⟩) hS.2.2 dX7_change_82
            · have c_58 : ¬ r0 ≤ 0 := fun h => c_58 ((nI_leI (a := r0) (b := 0) (by omega) (by omega)).mpr h)
              refine lv_aload_n hx hb dX7_change_61 rfl (lv_at hl 0 rfl) ?_
              refine lv_iconst (v := nI 4) hx hb dX7_change_62 (by decide) ?_
              have hF9 := va_free (wc := [(o 0, .inr (2, mFs o th p0 q0 r0 mu zz))]) hD hS (fun q h => hA q h) [0] rfl
              refine c_i (wr := [(o 5, .inl (dA 1, 2640, .inr (.inl fA))), (o 6, .inl (dA 1, 32, .inr (.inl fM)))]) (va_runV (As := [.int (nI 4)]) (rest := []) ⟨hx, hb, hml, hown, hts⟩ (x7_refuses Z (va_A [(o 0, .inr (2, mFs o th p0 q0 r0 mu zz))] s.heap.size) s.heap.size (fun q h => Or.inr h) o th p0 q0 r0 mu zz (nI 4)) (cwV 1 hts (lw_V q2100 q2102 qs34 q107 q2103) rfl rfl rfl (by decide +kernel) ⟨Nat.le_of_ble_eq_true rfl, Nat.le_of_ble_eq_true rfl⟩) (gP_V (va_recv hK hP (ci := 2) (q0 := 0) rfl rfl) hG hS (fun q _ h => hF9 q h) ⟨rfl, (hP.sub (ws' := [(o 0, .inr (2, mFs o th p0 q0 r0 mu zz))]) [0] rfl), (hD.sub (ws' := [(o 0, .inr (2, mFs o th p0 q0 r0 mu zz))]) [0] (by decide) rfl).self⟩) rfl rfl hl.1 rfl (lv_room (Nat.le_of_ble_eq_true rfl)) dX7_change_63 ⟨by first | decide | omega, by first | decide | omega⟩) hP hD hS hA [0] [1, 2] rfl rfl (by decide) (by decide) (fun r9 u9 H locs hq hX hz hk hP hD hS => ?_)
              obtain ⟨r_28, rfl⟩ : ∃ z, z = r9 := ⟨_, rfl⟩
              obtain rfl := hq
              have hP : va_P (dC, dI) vwCl [(o 5, .inl (dA 1, 2640, .inr (.inl fA))), (o 6, .inl (dA 1, 32, .inr (.inl fM))), (o 0, .inr (2, mFs o (nI 4) p0 q0 r0 mu zz))] H := hP
              have hD : va_D A [(o 5, .inl (dA 1, 2640, .inr (.inl fA))), (o 6, .inl (dA 1, 32, .inr (.inl fM))), (o 0, .inr (2, mFs o (nI 4) p0 q0 r0 mu zz))] := hD
              subst hQe
              exact W.iret (v := nI 0) hx hb hr (fun t ht hW => ⟨⟨_, (fA, fM, mu, nI 4), rfl, ModPost.mk0 (c := nI 4) (by simp [chgX, rgB, optC, h_xop, h_t, h_a, c_39, c_58, rg_n (show jt < 8 by omega), rg_n (show ja < 8 by omega), nI_clamp (show 5 < 2 ^ 31 by omega), nI_clamp (show jt < 2 ^ 31 by omega), nI_clamp (show ja < 2 ^ 31 by omega)]) (fun k9 hk9 i9 hi9 => rfl), B1_at ht (hP.sub [2, 0, 1] rfl) (hD.sub [2, 0, 1] (by decide) rfl) trivial⟩, hS.F ht⟩) hS.2.2 dX7_change_66
        · have c_39 : jxop = 9 := (nI_eq (a := jxop) (b := 9) (by omega) (by omega)).mp c_39
          subst c_39
          refine lv_aload_n hx hb dX7_change_42 rfl (lv_at hl 0 rfl) ?_
          refine lv_iload_n hx hb dX7_change_43 rfl (lv_at hl 2 rfl) ?_
          refine lv_iload_n hx hb dX7_change_44 rfl (lv_at hl 3 rfl) ?_
          have hF9 := va_free (wc := [(o 0, .inr (2, mFs o th p0 q0 r0 mu zz)), (o 5, .inl (dA 1, 2640, .inr (.inl fA))), (o 6, .inl (dA 1, 32, .inr (.inl fM)))]) hD hS (fun q h => hA q h) [0, 1, 2] rfl
          refine c_i (wr := []) (va_runV (As := [.int (nI jt), .int (nI ja)]) (rest := []) ⟨hx, hb, hml, hown, hts⟩ (x7_inverts Z (va_A [(o 0, .inr (2, mFs o th p0 q0 r0 mu zz)), (o 5, .inl (dA 1, 2640, .inr (.inl fA))), (o 6, .inl (dA 1, 32, .inr (.inl fM)))] s.heap.size) s.heap.size (fun q h => Or.inr h) o th p0 q0 r0 mu zz fA fM Ms jt ja hn hR sR (by omega) (by omega)) (cwV 2 hts (lw_V q2197 q2199 qs51 q107 q2200) rfl rfl rfl (by decide +kernel) ⟨Nat.le_of_ble_eq_true rfl, Nat.le_of_ble_eq_true rfl⟩) (gP_V (va_recv hK hP (ci := 2) (q0 := 0) rfl rfl) hG hS (fun q _ h => hF9 q h) ⟨rfl, (hP.sub (ws' := [(o 0, .inr (2, mFs o th p0 q0 r0 mu zz)), (o 5, .inl (dA 1, 2640, .inr (.inl fA))), (o 6, .inl (dA 1, 32, .inr (.inl fM)))]) [0, 1, 2] rfl), (hD.sub (ws' := [(o 0, .inr (2, mFs o th p0 q0 r0 mu zz)), (o 5, .inl (dA 1, 2640, .inr (.inl fA))), (o 6, .inl (dA 1, 32, .inr (.inl fM)))]) [0, 1, 2] (by decide) rfl).self⟩) rfl rfl hl.1 rfl (lv_room (Nat.le_of_ble_eq_true rfl)) dX7_change_45 ⟨by first | decide | omega, by first | decide | omega⟩) hP hD hS hA [0, 1, 2] [] rfl rfl (by decide) (by decide) (fun r9 u9 H locs hq hX hz hk hP hD hS => ?_)
          obtain ⟨fA_29, fM_30, mu_31, th_32⟩ := u9
          obtain ⟨r_33, rfl⟩ : ∃ z, z = r9 := ⟨_, rfl⟩
          dsimp only at hq
          have hP : va_P (dC, dI) vwCl [(o 0, .inr (2, mFs o th_32 p0 q0 r0 mu_31 zz)), (o 5, .inl (dA 1, 2640, .inr (.inl fA_29))), (o 6, .inl (dA 1, 32, .inr (.inl fM_30)))] H := hP
          have hD : va_D A [(o 0, .inr (2, mFs o th_32 p0 q0 r0 mu_31 zz)), (o 5, .inl (dA 1, 2640, .inr (.inl fA_29))), (o 6, .inl (dA 1, 32, .inr (.inl fM_30)))] := hD
          subst hQe
          exact W.iret (v := r_33) hx hb hr (fun t ht hW => ⟨⟨_, (fA_29, fM_30, mu_31, th_32), rfl, (by rw [rg_n (show jt < 8 by omega)]; rw [show chgX p0 q0 r0 Ms (nI 9) (nI jt) (nI ja) = invS p0 q0 r0 (Ms ja) from by simp [chgX, rgB, h_xop, h_t, h_a, rg_n (show ja < 8 by omega), nI_clamp (show (9 : Nat) < 2 ^ 31 by decide)]]; exact hq), B1_at ht (hP.sub [0, 1, 2] rfl) (hD.sub [0, 1, 2] (by decide) rfl) trivial⟩, hS.F ht⟩) hS.2.2 dX7_change_48
      · have h_a := bI_0 c_27
        refine lv_aload_n hx hb dX7_change_30 rfl (lv_at hl 0 rfl) ?_
        refine lv_iconst (v := nI 2) hx hb dX7_change_31 (by decide) ?_
        have hF9 := va_free (wc := [(o 0, .inr (2, mFs o th p0 q0 r0 mu zz))]) hD hS (fun q h => hA q h) [0] rfl
        refine c_i (wr := [(o 5, .inl (dA 1, 2640, .inr (.inl fA))), (o 6, .inl (dA 1, 32, .inr (.inl fM)))]) (va_runV (As := [.int (nI 2)]) (rest := []) ⟨hx, hb, hml, hown, hts⟩ (x7_refuses Z (va_A [(o 0, .inr (2, mFs o th p0 q0 r0 mu zz))] s.heap.size) s.heap.size (fun q h => Or.inr h) o th p0 q0 r0 mu zz (nI 2)) (cwV 1 hts (lw_V q2100 q2102 qs34 q107 q2103) rfl rfl rfl (by decide +kernel) ⟨Nat.le_of_ble_eq_true rfl, Nat.le_of_ble_eq_true rfl⟩) (gP_V (va_recv hK hP (ci := 2) (q0 := 0) rfl rfl) hG hS (fun q _ h => hF9 q h) ⟨rfl, (hP.sub (ws' := [(o 0, .inr (2, mFs o th p0 q0 r0 mu zz))]) [0] rfl), (hD.sub (ws' := [(o 0, .inr (2, mFs o th p0 q0 r0 mu zz))]) [0] (by decide) rfl).self⟩) rfl rfl hl.1 rfl (lv_room (Nat.le_of_ble_eq_true rfl)) dX7_change_32 ⟨by first | decide | omega, by first | decide | omega⟩) hP hD hS hA [0] [1, 2] rfl rfl (by decide) (by decide) (fun r9 u9 H locs hq hX hz hk hP hD hS => ?_)
        obtain ⟨r_34, rfl⟩ : ∃ z, z = r9 := ⟨_, rfl⟩
        obtain rfl := hq
        have hP : va_P (dC, dI) vwCl [(o 5, .inl (dA 1, 2640, .inr (.inl fA))), (o 6, .inl (dA 1, 32, .inr (.inl fM))), (o 0, .inr (2, mFs o (nI 2) p0 q0 r0 mu zz))] H := hP
        have hD : va_D A [(o 5, .inl (dA 1, 2640, .inr (.inl fA))), (o 6, .inl (dA 1, 32, .inr (.inl fM))), (o 0, .inr (2, mFs o (nI 2) p0 q0 r0 mu zz))] := hD
        subst hQe
        exact W.iret (v := nI 0) hx hb hr (fun t ht hW => ⟨⟨_, (fA, fM, mu, nI 2), rfl, ModPost.mk0 (c := nI 2) (by simp [chgX, rgB, optC, h_xop, h_t, h_a, rg_n (show jt < 8 by omega), nI_clamp (show jxop < 2 ^ 31 by omega), nI_clamp (show jt < 2 ^ 31 by omega)]) (fun k9 hk9 i9 hi9 => rfl), B1_at ht (hP.sub [2, 0, 1] rfl) (hD.sub [2, 0, 1] (by decide) rfl) trivial⟩, hS.F ht⟩) hS.2.2 dX7_change_35
  · have h_xop := bI_0 c_7
    refine lv_aload_n hx hb dX7_change_10 rfl (lv_at hl 0 rfl) ?_
    refine lv_iconst (v := nI 1) hx hb dX7_change_11 (by decide) ?_
    have hF9 := va_free (wc := [(o 0, .inr (2, mFs o th p0 q0 r0 mu zz))]) hD hS (fun q h => hA q h) [0] rfl
    refine c_i (wr := [(o 5, .inl (dA 1, 2640, .inr (.inl fA))), (o 6, .inl (dA 1, 32, .inr (.inl fM)))]) (va_runV (As := [.int (nI 1)]) (rest := []) ⟨hx, hb, hml, hown, hts⟩ (x7_refuses Z (va_A [(o 0, .inr (2, mFs o th p0 q0 r0 mu zz))] s.heap.size) s.heap.size (fun q h => Or.inr h) o th p0 q0 r0 mu zz (nI 1)) (cwV 1 hts (lw_V q2100 q2102 qs34 q107 q2103) rfl rfl rfl (by decide +kernel) ⟨Nat.le_of_ble_eq_true rfl, Nat.le_of_ble_eq_true rfl⟩) (gP_V (va_recv hK hP (ci := 2) (q0 := 0) rfl rfl) hG hS (fun q _ h => hF9 q h) ⟨rfl, (hP.sub (ws' := [(o 0, .inr (2, mFs o th p0 q0 r0 mu zz))]) [0] rfl), (hD.sub (ws' := [(o 0, .inr (2, mFs o th p0 q0 r0 mu zz))]) [0] (by decide) rfl).self⟩) rfl rfl hl.1 rfl (lv_room (Nat.le_of_ble_eq_true rfl)) dX7_change_12 ⟨by first | decide | omega, by first | decide | omega⟩) hP hD hS hA [0] [1, 2] rfl rfl (by decide) (by decide) (fun r9 u9 H locs hq hX hz hk hP hD hS => ?_)
    obtain ⟨r_35, rfl⟩ : ∃ z, z = r9 := ⟨_, rfl⟩
    obtain rfl := hq
    have hP : va_P (dC, dI) vwCl [(o 5, .inl (dA 1, 2640, .inr (.inl fA))), (o 6, .inl (dA 1, 32, .inr (.inl fM))), (o 0, .inr (2, mFs o (nI 1) p0 q0 r0 mu zz))] H := hP
    have hD : va_D A [(o 5, .inl (dA 1, 2640, .inr (.inl fA))), (o 6, .inl (dA 1, 32, .inr (.inl fM))), (o 0, .inr (2, mFs o (nI 1) p0 q0 r0 mu zz))] := hD
    subst hQe
    exact W.iret (v := nI 0) hx hb hr (fun t ht hW => ⟨⟨_, (fA, fM, mu, nI 1), rfl, ModPost.mk0 (c := nI 1) (by simp [chgX, rgB, optC, h_xop]) (fun k9 hk9 i9 hi9 => rfl), B1_at ht (hP.sub [2, 0, 1] rfl) (hD.sub [2, 0, 1] (by decide) rfl) trivial⟩, hS.F ht⟩) hS.2.2 dX7_change_15
set_option maxHeartbeats 4000000 in
theorem x7_gradePart {l : Launch} {dC : Nat → ClassId} {dI : Nat → Nat → Nat} {dA : Nat → ClassId} {s0 : State} {b0 : Addr} (Z : Z0 l dC dI dA s0 b0) (A : Nat → Prop) (sz : Nat) (hA : ∀ q : Nat, sz ≤ q → A q) (o : Nat → Nat) (th : Int32) (p0 q0 r0 : Nat) (mu : Int64) (zz : Nat → Int32) (fA fM : Nat → Int64) (Ms : Nat → MV) (t : Int32) (a : Int32) (g : Int32) (hn : p0 + q0 + r0 ≤ 5) (hR : ∀ k, k < 8 → Hold fA k (Ms k)) (sR : ∀ k, k < 8 → MSm (Ms k)) : Met l yX7_gradePart (ws_ yX7_gradePart cX7_gradePart 5 (some .int)) ({ frames := 7, cells := 0, slots := 0, locals := 420 } : Room) (gP [.ref (o 0), .int t, .int a, .int g] s0 A (fun H => H.size = sz ∧ va_P (dC, dI) vwCl [(o 0, .inr (2, mFs o th p0 q0 r0 mu zz)), (o 5, .inl (dA 1, 2640, .inr (.inl fA))), (o 6, .inl (dA 1, 32, .inr (.inl fM)))] H ∧ va_D A [(o 0, .inr (2, mFs o th p0 q0 r0 mu zz)), (o 5, .inl (dA 1, 2640, .inr (.inl fA))), (o 6, .inl (dA 1, 32, .inr (.inl fM)))])) (va_Qi (S := (Nat → Int64) × (Nat → Int64) × Int64 × Int32) (fun r u => ModPost fA (rg t) (grdX p0 q0 r0 Ms t a g) u.2.2.2 r u.1) (B1 (dC, dI) A (fun u => mC dA o u.2.2.2 p0 q0 r0 u.2.2.1 zz u.1 u.2.1) (fun _ _ => True)) A) 0 0 A := by
  refine Met.ofW (cc := cX7_gradePart) (maxL := 5) (ret := (some .int)) (by decide) rfl ?_
  intro p e s m args below meth c s₁ B hml hv
  obtain ⟨hav, hG, hsz, hP, hD⟩ := hv
  have hx := B.exec
  have hb := B.bytes
  have hr := B.returns
  have hts := atoms_spec (ws := (ws_ yX7_gradePart cX7_gradePart 5 (some .int))) B.pre
  have hts : ∀ w ∈ lw_all, w.before _ s = true := fun w h => hts w (List.mem_cons_of_mem _ h)
  have hown : s.vm.findClass RX7 = some m.cls := findClass_of_methodNamed B.named
  have hlocks := B.notSynchronized
  have hK := hG.K Z
  subst hsz
  have hS : va_S A s.heap s.heap [] := va_S.rf
  have hl := lv_entry ([.ref (o 0), .int t, .int a, .int g]) (n := 5) (Nat.le_of_ble_eq_true rfl)
  rw [show entryFrame m args 5 = entryFrame m ([.ref (o 0), .int t, .int a, .int g] : List Value).toArray 5 from by rw [hav], lg_entry_eq]
  generalize (lg_sl ([.ref (o 0), .int t, .int a, .int g]) ++ List.replicate (5 - (lg_sl ([.ref (o 0), .int t, .int a, .int g])).length) Slot.unset).toArray = ls at hl ⊢
  have hl : lv_has ls 5 [(0, .ref (o 0)), (1, .int t), (2, .int a), (3, .int g)] := hl
  generalize hQe : MQ below _ _ s _ _ _ = Q
  change W p l e ({ frames := 7, cells := 0, slots := 0, locals := 420 } : Room) s m args below meth c s.heap [] 0 0 Q (F0 m 0 ls [])
  refine lv_iload_n hx hb dX7_gradePart_0 rfl (lv_at hl 1 rfl) ?_
  refine s_i (va_runS (As := [.int t]) (rest := []) ⟨hx, hb, hml, hown, hts⟩ (x7_isRegister Z t) (va_cwS 1 hts (lw_S q2104 q2105 q107 q2106) rfl rfl rfl (by decide +kernel) ⟨Nat.le_of_ble_eq_true rfl, Nat.le_of_ble_eq_true rfl⟩) (gP_S hG hS (fun q _ h => h.elim) trivial) rfl rfl hl.1 rfl (lv_room (Nat.le_of_ble_eq_true rfl)) dX7_gradePart_1 ⟨by first | decide | omega, by first | decide | omega⟩) ?_
  refine lv_if_eq (tgt := 14) hx hb dX7_gradePart_4 (by decide) (fun c_4 => ?_) (fun c_4 => ?_)
  · have h_t := bI_0 c_4
    refine lv_aload_n hx hb dX7_gradePart_14 rfl (lv_at hl 0 rfl) ?_
    refine lv_iconst (v := nI 1) hx hb dX7_gradePart_15 (by decide) ?_
    have hF9 := va_free (wc := [(o 0, .inr (2, mFs o th p0 q0 r0 mu zz))]) hD hS (fun q h => hA q h) [0] rfl
    refine c_i (wr := [(o 5, .inl (dA 1, 2640, .inr (.inl fA))), (o 6, .inl (dA 1, 32, .inr (.inl fM)))]) (va_runV (As := [.int (nI 1)]) (rest := []) ⟨hx, hb, hml, hown, hts⟩ (x7_refuses Z (va_A [(o 0, .inr (2, mFs o th p0 q0 r0 mu zz))] s.heap.size) s.heap.size (fun q h => Or.inr h) o th p0 q0 r0 mu zz (nI 1)) (cwV 1 hts (lw_V q2100 q2102 qs34 q107 q2103) rfl rfl rfl (by decide +kernel) ⟨Nat.le_of_ble_eq_true rfl, Nat.le_of_ble_eq_true rfl⟩) (gP_V (va_recv hK hP (ci := 2) (q0 := 0) rfl rfl) hG hS (fun q _ h => hF9 q h) ⟨rfl, (hP.sub (ws' := [(o 0, .inr (2, mFs o th p0 q0 r0 mu zz))]) [0] rfl), (hD.sub (ws' := [(o 0, .inr (2, mFs o th p0 q0 r0 mu zz))]) [0] (by decide) rfl).self⟩) rfl rfl hl.1 rfl (lv_room (Nat.le_of_ble_eq_true rfl)) dX7_gradePart_16 ⟨by first | decide | omega, by first | decide | omega⟩) hP hD hS hA [0] [1, 2] rfl rfl (by decide) (by decide) (fun r9 u9 H locs hq hX hz hk hP hD hS => ?_)
    obtain ⟨r_1, rfl⟩ : ∃ z, z = r9 := ⟨_, rfl⟩
    obtain rfl := hq
    have hP : va_P (dC, dI) vwCl [(o 5, .inl (dA 1, 2640, .inr (.inl fA))), (o 6, .inl (dA 1, 32, .inr (.inl fM))), (o 0, .inr (2, mFs o (nI 1) p0 q0 r0 mu zz))] H := hP
    have hD : va_D A [(o 5, .inl (dA 1, 2640, .inr (.inl fA))), (o 6, .inl (dA 1, 32, .inr (.inl fM))), (o 0, .inr (2, mFs o (nI 1) p0 q0 r0 mu zz))] := hD
    subst hQe
    exact W.iret (v := nI 0) hx hb hr (fun t ht hW => ⟨⟨_, (fA, fM, mu, nI 1), rfl, ModPost.mk0 (c := nI 1) (by simp [grdX, rgB, optC, h_t]) (fun k9 hk9 i9 hi9 => rfl), B1_at ht (hP.sub [2, 0, 1] rfl) (hD.sub [2, 0, 1] (by decide) rfl) trivial⟩, hS.F ht⟩) hS.2.2 dX7_gradePart_19
  · have h_t := bI_1 c_4
    obtain ⟨jt, hj_t, rfl⟩ := inB_nat (by decide) h_t
    refine lv_iload_n hx hb dX7_gradePart_7 rfl (lv_at hl 2 rfl) ?_
    refine s_i (va_runS (As := [.int a]) (rest := []) ⟨hx, hb, hml, hown, hts⟩ (x7_isRegister Z a) (va_cwS 1 hts (lw_S q2104 q2105 q107 q2106) rfl rfl rfl (by decide +kernel) ⟨Nat.le_of_ble_eq_true rfl, Nat.le_of_ble_eq_true rfl⟩) (gP_S hG hS (fun q _ h => h.elim) trivial) rfl rfl hl.1 rfl (lv_room (Nat.le_of_ble_eq_true rfl)) dX7_gradePart_8 ⟨by first | decide | omega, by first | decide | omega⟩) ?_
    refine lv_if_ne (tgt := 20) hx hb dX7_gradePart_11 (by decide) (fun c_11 => ?_) (fun c_11 => ?_)
    · have h_a := bI_1 c_11
      obtain ⟨ja, hj_a, rfl⟩ := inB_nat (by decide) h_a
      refine lv_iload_n hx hb dX7_gradePart_20 rfl (lv_at hl 3 rfl) ?_
      refine lv_iconst (v := nI 0) hx hb dX7_gradePart_21 (by decide) ?_
      refine lv_aload_n hx hb dX7_gradePart_22 rfl (lv_at hl 0 rfl) ?_
      refine s_i (va_runV (As := []) (rest := [.int (nI 0), .int g]) ⟨hx, hb, hml, hown, hts⟩ (x7_n Z o th p0 q0 r0 mu zz) (cwV 0 hts (lw_V q2151 q2153 qs44 q107 q2154) rfl rfl rfl (by decide +kernel) ⟨Nat.le_of_ble_eq_true rfl, Nat.le_of_ble_eq_true rfl⟩) (gP_V (va_recv hK hP (ci := 2) (q0 := 0) rfl rfl) hG hS (fun q _ h => h.elim) (hP.sub (ws' := [(o 0, .inr (2, mFs o th p0 q0 r0 mu zz))]) [0] rfl)) rfl rfl hl.1 rfl (lv_room (Nat.le_of_ble_eq_true rfl)) dX7_gradePart_23 ⟨by first | decide | omega, by first | decide | omega⟩) ?_
      refine s_i (va_runS (As := [.int g, .int (nI 0), .int (nI (p0 + q0 + r0))]) (rest := []) ⟨hx, hb, hml, hown, hts⟩ (x7_in Z g (nI 0) (nI (p0 + q0 + r0))) (va_cwS 3 hts (lw_S q2097 q2098 q107 q2099) rfl rfl rfl (by decide +kernel) ⟨Nat.le_of_ble_eq_true rfl, Nat.le_of_ble_eq_true rfl⟩) (gP_S hG hS (fun q _ h => h.elim) trivial) rfl rfl hl.1 rfl (lv_room (Nat.le_of_ble_eq_true rfl)) dX7_gradePart_26 ⟨by first | decide | omega, by first | decide | omega⟩) ?_
      refine lv_if_ne (tgt := 38) hx hb dX7_gradePart_29 (by decide) (fun c_29 => ?_) (fun c_29 => ?_)
      · have h_g := bI_1 c_29
        obtain ⟨jg, hj_g, rfl⟩ := inB_nat (by omega) h_g
        refine lv_aload_n hx hb dX7_gradePart_38 rfl (lv_at hl 0 rfl) ?_
        have hF9 := va_free (wc := [(o 0, .inr (2, mFs o th p0 q0 r0 mu zz)), (o 5, .inl (dA 1, 2640, .inr (.inl fA))), (o 6, .inl (dA 1, 32, .inr (.inl fM)))]) hD hS (fun q h => hA q h) [0, 1, 2] rfl
        refine c_v (wr := []) (va_runV (As := []) (rest := []) ⟨hx, hb, hml, hown, hts⟩ (x7_clearsMade Z (va_A [(o 0, .inr (2, mFs o th p0 q0 r0 mu zz)), (o 5, .inl (dA 1, 2640, .inr (.inl fA))), (o 6, .inl (dA 1, 32, .inr (.inl fM)))] s.heap.size) s.heap.size (fun q h => Or.inr h) o th p0 q0 r0 mu zz fA fM) (cwV 0 hts (lw_V q2115 q2117 qs37 q107 q2118) rfl rfl rfl (by decide +kernel) ⟨Nat.le_of_ble_eq_true rfl, Nat.le_of_ble_eq_true rfl⟩) (gP_V (va_recv hK hP (ci := 2) (q0 := 0) rfl rfl) hG hS (fun q _ h => hF9 q h) ⟨rfl, (hP.sub (ws' := [(o 0, .inr (2, mFs o th p0 q0 r0 mu zz)), (o 5, .inl (dA 1, 2640, .inr (.inl fA))), (o 6, .inl (dA 1, 32, .inr (.inl fM)))]) [0, 1, 2] rfl), (hD.sub (ws' := [(o 0, .inr (2, mFs o th p0 q0 r0 mu zz)), (o 5, .inl (dA 1, 2640, .inr (.inl fA))), (o 6, .inl (dA 1, 32, .inr (.inl fM)))]) [0, 1, 2] (by decide) rfl).self⟩) rfl rfl hl.1 rfl (lv_room (Nat.le_of_ble_eq_true rfl)) dX7_gradePart_39 ⟨by first | decide | omega, by first | decide | omega⟩) hP hD hS hA [0, 1, 2] [] rfl rfl (by decide) (by decide) (fun u9 H locs hq hX hz hk hP hD hS => ?_)
        have hP : va_P (dC, dI) vwCl [(o 0, .inr (2, mFs o th p0 q0 r0 1 zz)), (o 5, .inl (dA 1, 2640, .inr (.inl fA))), (o 6, .inl (dA 1, 32, .inr (.inl (fun _ => 0))))] H := hP
        have hD : va_D A [(o 0, .inr (2, mFs o th p0 q0 r0 1 zz)), (o 5, .inl (dA 1, 2640, .inr (.inl fA))), (o 6, .inl (dA 1, 32, .inr (.inl (fun _ => 0))))] := hD
        refine lv_iconst (v := nI 0) hx hb dX7_gradePart_42 (by decide) ?_
        refine lv_istore (lv' := [(4, .int (nI 0)), (0, .ref (o 0)), (1, .int (nI jt)), (2, .int (nI ja)), (3, .int (nI jg))]) hx hb dX7_gradePart_43 hl (by decide) rfl (fun ls hl => ?_)
        have h5 := pow5 hn
        have e9 : (fun _ => 0 : Nat → Int64) = (wrS (fun _ => 0) 0 0 (grdR (2 ^ (p0 + q0 + r0)) jg (Ms ja))) := (wr_0 _ _ _).symm
        rw [e9] at hP hD; clear e9
        have loop_2 : ∀ (n9_2 : Nat) (k : Nat) (H : Heap) (locs : List Loc) (ls : Array Slot), 33 - k < n9_2 → (k ≤ 2 ^ (p0 + q0 + r0)) → va_P (dC, dI) vwCl [(o 0, .inr (2, mFs o th p0 q0 r0 1 zz)), (o 5, .inl (dA 1, 2640, .inr (.inl fA))), (o 6, .inl (dA 1, 32, .inr (.inl (wrS (fun _ => 0) 0 k (grdR (2 ^ (p0 + q0 + r0)) jg (Ms ja))))))] H → va_D A [(o 0, .inr (2, mFs o th p0 q0 r0 1 zz)), (o 5, .inl (dA 1, 2640, .inr (.inl fA))), (o 6, .inl (dA 1, 32, .inr (.inl (wrS (fun _ => 0) 0 k (grdR (2 ^ (p0 + q0 + r0)) jg (Ms ja))))))] → va_S A s.heap H locs → lv_has ls 5 [(0, .ref (o 0)), (1, .int (nI jt)), (2, .int (nI ja)), (3, .int (nI jg)), (4, .int (nI k))] → W p l e ({ frames := 7, cells := 0, slots := 0, locals := 420 } : Room) s m args below meth c H locs 0 0 Q (F0 m 45 ls []) := by
          intro n9_2
          induction n9_2 with
          | zero => intro k H locs ls hm_2; exact absurd hm_2 (Nat.not_lt_zero _)
          | succ n9_2 ih_2 =>
            intro k H locs ls hm_2 hk9 hP hD hS hl
            refine lv_iload hx hb dX7_gradePart_45 (lv_at hl 4 rfl) ?_
            refine lv_aload_n hx hb dX7_gradePart_47 rfl (lv_at hl 0 rfl) ?_
            refine s_i (va_runV (As := []) (rest := [.int (nI k)]) ⟨hx, hb, hml, hown, hts⟩ (x7_full Z o th p0 q0 r0 1 zz (by omega)) (cwV 0 hts (lw_V q2147 q2149 qs43 q107 q2150) rfl rfl rfl (by decide +kernel) ⟨Nat.le_of_ble_eq_true rfl, Nat.le_of_ble_eq_true rfl⟩) (gP_V (va_recv hK hP (ci := 2) (q0 := 0) rfl rfl) hG hS (fun q _ h => h.elim) (hP.sub (ws' := [(o 0, .inr (2, mFs o th p0 q0 r0 1 zz))]) [0] rfl)) rfl rfl hl.1 rfl (lv_room (Nat.le_of_ble_eq_true rfl)) dX7_gradePart_48 ⟨by first | decide | omega, by first | decide | omega⟩) ?_
            refine lv_icmp_gt (tgt := 87) hx hb dX7_gradePart_51 (by decide) (fun c_51 => ?_) (fun c_51 => ?_)
            · have c_51 : (2 ^ (p0 + q0 + r0) - 1) < k := (nI_ltI (a := (2 ^ (p0 + q0 + r0) - 1)) (b := k) (by omega) (by omega)).mp c_51
              obtain rfl : k = 2 ^ (p0 + q0 + r0) := by omega
              have hP := P_L hP 2 (grdR (2 ^ (p0 + q0 + r0)) jg (Ms ja)) rfl (fun j hj => by by_cases h : j < 2 ^ (p0 + q0 + r0); (rw [wr_in (by omega) (by omega)]; rfl); (rw [wr_out (by omega)]; unfold grdR; rw [if_neg (by omega)]))
              have hD := va_D.set (e := .inl (dA 1, 32, .inr (.inl (grdR (2 ^ (p0 + q0 + r0)) jg (Ms ja))))) hD (p := 2) rfl
              have hP : va_P (dC, dI) vwCl [(o 0, .inr (2, mFs o th p0 q0 r0 1 zz)), (o 5, .inl (dA 1, 2640, .inr (.inl fA))), (o 6, .inl (dA 1, 32, .inr (.inl (grdR (2 ^ (p0 + q0 + r0)) jg (Ms ja)))))] H := hP
              have hD : va_D A [(o 0, .inr (2, mFs o th p0 q0 r0 1 zz)), (o 5, .inl (dA 1, 2640, .inr (.inl fA))), (o 6, .inl (dA 1, 32, .inr (.inl (grdR (2 ^ (p0 + q0 + r0)) jg (Ms ja)))))] := hD
              refine lv_aload_n hx hb dX7_gradePart_87 rfl (lv_at hl 0 rfl) ?_
              refine lv_aload_n hx hb dX7_gradePart_88 rfl (lv_at hl 0 rfl) ?_
              refine lv_iload_n hx hb dX7_gradePart_89 rfl (lv_at hl 2 rfl) ?_
              refine s_l (va_runV (As := [.int (nI ja)]) (rest := [.ref (o 0)]) ⟨hx, hb, hml, hown, hts⟩ (x7_under Z o th p0 q0 r0 1 zz fA ja (by omega)) (cwV 1 hts (lw_V q2123 q2125 qs39 q107 q2126) rfl rfl rfl (by decide +kernel) ⟨Nat.le_of_ble_eq_true rfl, Nat.le_of_ble_eq_true rfl⟩) (gP_V (va_recv hK hP (ci := 2) (q0 := 0) rfl rfl) hG hS (fun q _ h => h.elim) (hP.sub (ws' := [(o 0, .inr (2, mFs o th p0 q0 r0 1 zz)), (o 5, .inl (dA 1, 2640, .inr (.inl fA)))]) [0, 1] rfl)) rfl rfl hl.1 rfl (lv_room (Nat.le_of_ble_eq_true rfl)) dX7_gradePart_90 ⟨by first | decide | omega, by first | decide | omega⟩) ?_
              refine e_l (y := (Ms ja) 0) (hold_at (hR ja (by omega)) (i := 0) (by omega) (by omega)) ?_
              refine va_put (D := (dC, dI)) (ci := 2) (v := .long ((Ms ja) 0)) (ty := .long) (C := RX7) (T := TX7) (N := 27) hx hb hts in_X7 tyX7 tyX7_ok nmX7 hown hK hP hD hS 0 rfl rfl 10 (by decide) (hts _ q2016) (fun _ h9 => h9) rfl (by decide +kernel) rfl rfl (Nat.le_of_ble_eq_true rfl) dX7_gradePart_93 (fun H locs hP hD hS => ?_)
              have hP : va_P (dC, dI) vwCl [(o 0, .inr (2, mFs o th p0 q0 r0 ((Ms ja) 0) zz)), (o 5, .inl (dA 1, 2640, .inr (.inl fA))), (o 6, .inl (dA 1, 32, .inr (.inl (grdR (2 ^ (p0 + q0 + r0)) jg (Ms ja)))))] H := hP
              have hD : va_D A [(o 0, .inr (2, mFs o th p0 q0 r0 ((Ms ja) 0) zz)), (o 5, .inl (dA 1, 2640, .inr (.inl fA))), (o 6, .inl (dA 1, 32, .inr (.inl (grdR (2 ^ (p0 + q0 + r0)) jg (Ms ja)))))] := hD
              refine lv_aload_n hx hb dX7_gradePart_96 rfl (lv_at hl 0 rfl) ?_
              refine lv_bipush (v := nI 24) hx hb dX7_gradePart_97 (by decide) ?_
              have hF9 := va_free (wc := [(o 0, .inr (2, mFs o th p0 q0 r0 ((Ms ja) 0) zz)), (o 5, .inl (dA 1, 2640, .inr (.inl fA))), (o 6, .inl (dA 1, 32, .inr (.inl (grdR (2 ^ (p0 + q0 + r0)) jg (Ms ja)))))]) hD hS (fun q h => hA q h) [0, 1, 2] rfl
              refine c_i (wr := []) (va_runV (As := [.int (nI 24)]) (rest := []) ⟨hx, hb, hml, hown, hts⟩ (x7_puts Z (va_A [(o 0, .inr (2, mFs o th p0 q0 r0 ((Ms ja) 0) zz)), (o 5, .inl (dA 1, 2640, .inr (.inl fA))), (o 6, .inl (dA 1, 32, .inr (.inl (grdR (2 ^ (p0 + q0 + r0)) jg (Ms ja)))))] H.size) H.size (fun q h => Or.inr h) o th p0 q0 r0 ((Ms ja) 0) zz fA (grdR (2 ^ (p0 + q0 + r0)) jg (Ms ja)) 24 (by omega) (sR ja (by omega)).1 (fun j hj => ne_min_of (grdR_bd (sR ja (by omega)) hj) (by decide))) (cwV 1 hts (lw_V q2127 q2129 qs40 q107 q2130) rfl rfl rfl (by decide +kernel) ⟨Nat.le_of_ble_eq_true rfl, Nat.le_of_ble_eq_true rfl⟩) (gP_V (va_recv hK hP (ci := 2) (q0 := 0) rfl rfl) hG hS (fun q _ h => hF9 q h) ⟨rfl, (hP.sub (ws' := [(o 0, .inr (2, mFs o th p0 q0 r0 ((Ms ja) 0) zz)), (o 5, .inl (dA 1, 2640, .inr (.inl fA))), (o 6, .inl (dA 1, 32, .inr (.inl (grdR (2 ^ (p0 + q0 + r0)) jg (Ms ja)))))]) [0, 1, 2] rfl), (hD.sub (ws' := [(o 0, .inr (2, mFs o th p0 q0 r0 ((Ms ja) 0) zz)), (o 5, .inl (dA 1, 2640, .inr (.inl fA))), (o 6, .inl (dA 1, 32, .inr (.inl (grdR (2 ^ (p0 + q0 + r0)) jg (Ms ja)))))]) [0, 1, 2] (by decide) rfl).self⟩) rfl rfl hl.1 rfl (lv_room (Nat.le_of_ble_eq_true rfl)) dX7_gradePart_99 ⟨by first | decide | omega, by first | decide | omega⟩) hP hD hS hA [0, 1, 2] [] rfl rfl (by decide) (by decide) (fun r9 u9 H locs hq hX hz hk hP hD hS => ?_)
              obtain ⟨fA_3, fM_4, mu_5⟩ := u9
              obtain ⟨r_6, rfl⟩ : ∃ z, z = r9 := ⟨_, rfl⟩
              have hq_7 := hq
              try dsimp only at hq_7
              have hP : va_P (dC, dI) vwCl [(o 0, .inr (2, mFs o th p0 q0 r0 mu_5 zz)), (o 5, .inl (dA 1, 2640, .inr (.inl fA_3))), (o 6, .inl (dA 1, 32, .inr (.inl fM_4)))] H := hP
              have hD : va_D A [(o 0, .inr (2, mFs o th p0 q0 r0 mu_5 zz)), (o 5, .inl (dA 1, 2640, .inr (.inl fA_3))), (o 6, .inl (dA 1, 32, .inr (.inl fM_4)))] := hD
              rw [fitS_t (fit_small (sR ja (by omega)).1 (sR ja (by omega)).2.1 (fun j hj => grdR_bd (sR ja (by omega)) hj))] at hq_7
              obtain ⟨rfl, hH_k_8, hS_k_8⟩ := hq_7
              have hh_9 := hS_k_8.hold (j := jt) (by omega) (hR jt (by omega))
              have hh_10 := hS_k_8.hold (j := ja) (by omega) (hR ja (by omega))
              refine lv_istore (lv' := [(4, .int (nI 1)), (0, .ref (o 0)), (1, .int (nI jt)), (2, .int (nI ja)), (3, .int (nI jg))]) hx hb dX7_gradePart_102 hl (by decide) rfl (fun ls hl => ?_)
              refine lv_aload_n hx hb dX7_gradePart_104 rfl (lv_at hl 1 rfl) ?_
              refine lv_bipush (v := nI 24) hx hb dX7_gradePart_105 (by decide) ?_
              refine lv_iload_n hx hb dX7_gradePart_107 rfl (lv_at hl 2 rfl) ?_
              have hF9 := va_free (wc := [(o 0, .inr (2, mFs o th p0 q0 r0 mu_5 zz)), (o 5, .inl (dA 1, 2640, .inr (.inl fA_3)))]) hD hS (fun q h => hA q h) [0, 1] rfl
              refine c_i (wr := [(o 6, .inl (dA 1, 32, .inr (.inl fM_4)))]) (va_runV (As := [.int (nI 24), .int (nI jt)]) (rest := []) ⟨hx, hb, hml, hown, hts⟩ (x7_gives Z (va_A [(o 0, .inr (2, mFs o th p0 q0 r0 mu_5 zz)), (o 5, .inl (dA 1, 2640, .inr (.inl fA_3)))] H.size) H.size (fun q h => Or.inr h) o th p0 q0 r0 mu_5 zz fA_3 fM_4 24 jt (by omega) (by omega)) (cwV 2 hts (lw_V q2181 q2183 qs48 q107 q2184) rfl rfl rfl (by decide +kernel) ⟨Nat.le_of_ble_eq_true rfl, Nat.le_of_ble_eq_true rfl⟩) (gP_V (va_recv hK hP (ci := 2) (q0 := 0) rfl rfl) hG hS (fun q _ h => hF9 q h) ⟨rfl, (hP.sub (ws' := [(o 0, .inr (2, mFs o th p0 q0 r0 mu_5 zz)), (o 5, .inl (dA 1, 2640, .inr (.inl fA_3)))]) [0, 1] rfl), (hD.sub (ws' := [(o 0, .inr (2, mFs o th p0 q0 r0 mu_5 zz)), (o 5, .inl (dA 1, 2640, .inr (.inl fA_3)))]) [0, 1] (by decide) rfl).self⟩) rfl rfl hl.1 rfl (lv_room (Nat.le_of_ble_eq_true rfl)) dX7_gradePart_108 ⟨by first | decide | omega, by first | decide | omega⟩) hP hD hS hA [0, 1] [2] rfl rfl (by decide) (by decide) (fun r9 u9 H locs hq hX hz hk hP hD hS => ?_)
              obtain ⟨r_11, rfl⟩ : ∃ z, z = r9 := ⟨_, rfl⟩
              obtain rfl := hq
              have hP : va_P (dC, dI) vwCl [(o 6, .inl (dA 1, 32, .inr (.inl fM_4))), (o 0, .inr (2, mFs o (nI 0) p0 q0 r0 mu_5 zz)), (o 5, .inl (dA 1, 2640, .inr (.inl (cpS fA_3 24 jt))))] H := hP
              have hD : va_D A [(o 6, .inl (dA 1, 32, .inr (.inl fM_4))), (o 0, .inr (2, mFs o (nI 0) p0 q0 r0 mu_5 zz)), (o 5, .inl (dA 1, 2640, .inr (.inl (cpS fA_3 24 jt))))] := hD
              have hc_13 := cpS_hold (t := jt) hH_k_8
              have hs_14 := cpS_same (fA := fA_3) (k := 24) (t := jt)
              generalize cpS fA_3 24 jt = fA_12 at hP hD hc_13 hs_14 ⊢
              have hh_15 := hs_14.hold (j := 24) (by omega) hH_k_8
              subst hQe
              exact W.iret (v := nI (cntN (fun j => fA_12 (33 * jt + 1 + j)) 32)) hx hb hr (fun t ht hW => ⟨⟨_, (fA_12, fM_4, mu_5, nI 0), rfl, (by rw [rg_n (show jt < 8 by omega)]; exact ModPost.mk1 (P := (redS (Ms ja 0) (grdR (2 ^ (p0 + q0 + r0)) jg (Ms ja)))) (by simp [grdX, rgB, optC, h_t, h_a, h_g, rg_n (show jt < 8 by omega), rg_n (show ja < 8 by omega), nI_clamp (show jt < 2 ^ 31 by omega), nI_clamp (show ja < 2 ^ 31 by omega), nI_clamp (show jg < 2 ^ 31 by omega)]) hc_13 (fun k9 hk9 i9 hi9 => by (try dsimp only [outH] at hk9); show fA_12 (33 * k9 + i9) = fA (33 * k9 + i9); rw [hs_14 _ (by omega), hS_k_8 _ (by omega)])), B1_at ht (hP.sub [1, 2, 0] rfl) (hD.sub [1, 2, 0] (by decide) rfl) trivial⟩, hS.F ht⟩) hS.2.2 dX7_gradePart_111
            · have c_51 : ¬ (2 ^ (p0 + q0 + r0) - 1) < k := fun h => c_51 ((nI_ltI (a := (2 ^ (p0 + q0 + r0) - 1)) (b := k) (by omega) (by omega)).mpr h)
              have hk8 : k < 32 := by omega
              have hk7 : k < 2 ^ (p0 + q0 + r0) := by omega
              have hp9 := popc_le5 k hk8
              refine lv_aload_n hx hb dX7_gradePart_54 rfl (lv_at hl 0 rfl) ?_
              refine va_get (D := (dC, dI)) (ci := 2) (v := .ref (o 6)) (C := RX7) (T := TX7) (N := 27) hx hb hts in_X7 hown hK hP 0 rfl rfl 9 (by decide) (hts _ q2015) (fun _ h9 => h9) rfl dX7_gradePart_55 ?_
              refine lv_iload hx hb dX7_gradePart_58 (lv_at hl 4 rfl) ?_
              refine lv_iload hx hb dX7_gradePart_60 (lv_at hl 4 rfl) ?_
              refine s_i (va_runS (As := [.int (nI k)]) (rest := [.int (nI k), .ref (o 6)]) ⟨hx, hb, hml, hown, hts⟩ (x7_size Z k (by omega)) (va_cwS 1 hts (lw_S q2158 q2159 q107 q2160) rfl rfl rfl (by decide +kernel) ⟨Nat.le_of_ble_eq_true rfl, Nat.le_of_ble_eq_true rfl⟩) (gP_S hG hS (fun q _ h => h.elim) trivial) rfl rfl hl.1 rfl (lv_room (Nat.le_of_ble_eq_true rfl)) dX7_gradePart_62 ⟨by first | decide | omega, by first | decide | omega⟩) ?_
              refine lv_iload_n hx hb dX7_gradePart_65 rfl (lv_at hl 3 rfl) ?_
              refine lv_icmp_ne (tgt := 79) hx hb dX7_gradePart_66 (by decide) (fun c_66 => ?_) (fun c_66 => ?_)
              · have c_66 : ¬ (popc k) = jg := fun h => c_66 ((nI_eq (a := (popc k)) (b := jg) (by omega) (by omega)).mpr h)
                refine lv_lconst (v := 0) hx hb dX7_gradePart_79 rfl ?_
                refine a_last hx hb hK hP hD hS 2 1 rfl rfl (by omega) (by omega) dX7_gradePart_80 (fun H locs hP hD hS => ?_)
                have hP : va_P (dC, dI) vwCl [(o 0, .inr (2, mFs o th p0 q0 r0 1 zz)), (o 5, .inl (dA 1, 2640, .inr (.inl fA))), (o 6, .inl (dA 1, 32, .inr (.inl (vp_updL (wrS (fun _ => 0) 0 k (grdR (2 ^ (p0 + q0 + r0)) jg (Ms ja))) k 0))))] H := hP
                have hD : va_D A [(o 0, .inr (2, mFs o th p0 q0 r0 1 zz)), (o 5, .inl (dA 1, 2640, .inr (.inl fA))), (o 6, .inl (dA 1, 32, .inr (.inl (vp_updL (wrS (fun _ => 0) 0 k (grdR (2 ^ (p0 + q0 + r0)) jg (Ms ja))) k 0))))] := hD
                have e9 : (vp_updL (wrS (fun _ => 0) 0 k (grdR (2 ^ (p0 + q0 + r0)) jg (Ms ja))) k 0 : Nat → Int64) = (wrS (fun _ => 0) 0 (k + 1) (grdR (2 ^ (p0 + q0 + r0)) jg (Ms ja))) := wr_s (by omega) (by unfold grdR; rw [if_neg (fun h => c_66 h.2)])
                rw [e9] at hP hD; clear e9
                refine lv_iinc (v := nI (k + 1)) (lv' := [(4, .int (nI (k + 1))), (0, .ref (o 0)), (1, .int (nI jt)), (2, .int (nI ja)), (3, .int (nI jg))]) hx hb dX7_gradePart_81 hl (k := 4) rfl (by exact nI_add _ 1) (by decide) rfl (fun ls hl => ?_)
                refine lv_goto (tgt := 45) hx hb dX7_gradePart_84 (by decide) ?_
                exact ih_2 (k + 1) H locs ls (by omega) (by omega) (hP.sub [0, 1, 2] rfl) (hD.sub [0, 1, 2] (by decide) rfl) hS (lv_sub hl [1, 2, 3, 4, 0] rfl)
              · have c_66 : (popc k) = jg := (nI_eq (a := (popc k)) (b := jg) (by omega) (by omega)).mp c_66
                refine lv_aload_n hx hb dX7_gradePart_69 rfl (lv_at hl 0 rfl) ?_
                refine lv_iload_n hx hb dX7_gradePart_70 rfl (lv_at hl 2 rfl) ?_
                refine lv_iload hx hb dX7_gradePart_71 (lv_at hl 4 rfl) ?_
                refine s_l (va_runV (As := [.int (nI ja), .int (nI k)]) (rest := [.int (nI k), .ref (o 6)]) ⟨hx, hb, hml, hown, hts⟩ (x7_of Z o th p0 q0 r0 1 zz fA ja k (by omega)) (cwV 2 hts (lw_V q2119 q2121 qs38 q107 q2122) rfl rfl rfl (by decide +kernel) ⟨Nat.le_of_ble_eq_true rfl, Nat.le_of_ble_eq_true rfl⟩) (gP_V (va_recv hK hP (ci := 2) (q0 := 0) rfl rfl) hG hS (fun q _ h => h.elim) (hP.sub (ws' := [(o 0, .inr (2, mFs o th p0 q0 r0 1 zz)), (o 5, .inl (dA 1, 2640, .inr (.inl fA)))]) [0, 1] rfl)) rfl rfl hl.1 rfl (lv_room (Nat.le_of_ble_eq_true rfl)) dX7_gradePart_73 ⟨by first | decide | omega, by first | decide | omega⟩) ?_
                refine e_l (y := (Ms ja) (k + 1)) (hold_at (hR ja (by omega)) (i := k + 1) (by omega) (by omega)) ?_
                refine lv_goto (tgt := 80) hx hb dX7_gradePart_76 (by decide) ?_
                refine a_last hx hb hK hP hD hS 2 1 rfl rfl (by omega) (by omega) dX7_gradePart_80 (fun H locs hP hD hS => ?_)
                have hP : va_P (dC, dI) vwCl [(o 0, .inr (2, mFs o th p0 q0 r0 1 zz)), (o 5, .inl (dA 1, 2640, .inr (.inl fA))), (o 6, .inl (dA 1, 32, .inr (.inl (vp_updL (wrS (fun _ => 0) 0 k (grdR (2 ^ (p0 + q0 + r0)) jg (Ms ja))) k ((Ms ja) (k + 1))))))] H := hP
                have hD : va_D A [(o 0, .inr (2, mFs o th p0 q0 r0 1 zz)), (o 5, .inl (dA 1, 2640, .inr (.inl fA))), (o 6, .inl (dA 1, 32, .inr (.inl (vp_updL (wrS (fun _ => 0) 0 k (grdR (2 ^ (p0 + q0 + r0)) jg (Ms ja))) k ((Ms ja) (k + 1))))))] := hD
                have e9 : (vp_updL (wrS (fun _ => 0) 0 k (grdR (2 ^ (p0 + q0 + r0)) jg (Ms ja))) k ((Ms ja) (k + 1)) : Nat → Int64) = (wrS (fun _ => 0) 0 (k + 1) (grdR (2 ^ (p0 + q0 + r0)) jg (Ms ja))) := wr_s (by omega) (by unfold grdR; rw [if_pos ⟨hk7, c_66⟩])
                rw [e9] at hP hD; clear e9
                refine lv_iinc (v := nI (k + 1)) (lv' := [(4, .int (nI (k + 1))), (0, .ref (o 0)), (1, .int (nI jt)), (2, .int (nI ja)), (3, .int (nI jg))]) hx hb dX7_gradePart_81 hl (k := 4) rfl (by exact nI_add _ 1) (by decide) rfl (fun ls hl => ?_)
                refine lv_goto (tgt := 45) hx hb dX7_gradePart_84 (by decide) ?_
                exact ih_2 (k + 1) H locs ls (by omega) (by omega) (hP.sub [0, 1, 2] rfl) (hD.sub [0, 1, 2] (by decide) rfl) hS (lv_sub hl [1, 2, 3, 4, 0] rfl)
        exact loop_2 _ 0 H locs ls (Nat.lt_succ_self _) (by omega) hP hD hS (lv_sub hl [1, 2, 3, 4, 0] rfl)
      · have h_g := bI_0 c_29
        refine lv_aload_n hx hb dX7_gradePart_32 rfl (lv_at hl 0 rfl) ?_
        refine lv_iconst (v := nI 2) hx hb dX7_gradePart_33 (by decide) ?_
        have hF9 := va_free (wc := [(o 0, .inr (2, mFs o th p0 q0 r0 mu zz))]) hD hS (fun q h => hA q h) [0] rfl
        refine c_i (wr := [(o 5, .inl (dA 1, 2640, .inr (.inl fA))), (o 6, .inl (dA 1, 32, .inr (.inl fM)))]) (va_runV (As := [.int (nI 2)]) (rest := []) ⟨hx, hb, hml, hown, hts⟩ (x7_refuses Z (va_A [(o 0, .inr (2, mFs o th p0 q0 r0 mu zz))] s.heap.size) s.heap.size (fun q h => Or.inr h) o th p0 q0 r0 mu zz (nI 2)) (cwV 1 hts (lw_V q2100 q2102 qs34 q107 q2103) rfl rfl rfl (by decide +kernel) ⟨Nat.le_of_ble_eq_true rfl, Nat.le_of_ble_eq_true rfl⟩) (gP_V (va_recv hK hP (ci := 2) (q0 := 0) rfl rfl) hG hS (fun q _ h => hF9 q h) ⟨rfl, (hP.sub (ws' := [(o 0, .inr (2, mFs o th p0 q0 r0 mu zz))]) [0] rfl), (hD.sub (ws' := [(o 0, .inr (2, mFs o th p0 q0 r0 mu zz))]) [0] (by decide) rfl).self⟩) rfl rfl hl.1 rfl (lv_room (Nat.le_of_ble_eq_true rfl)) dX7_gradePart_34 ⟨by first | decide | omega, by first | decide | omega⟩) hP hD hS hA [0] [1, 2] rfl rfl (by decide) (by decide) (fun r9 u9 H locs hq hX hz hk hP hD hS => ?_)
        obtain ⟨r_16, rfl⟩ : ∃ z, z = r9 := ⟨_, rfl⟩
        obtain rfl := hq
        have hP : va_P (dC, dI) vwCl [(o 5, .inl (dA 1, 2640, .inr (.inl fA))), (o 6, .inl (dA 1, 32, .inr (.inl fM))), (o 0, .inr (2, mFs o (nI 2) p0 q0 r0 mu zz))] H := hP
        have hD : va_D A [(o 5, .inl (dA 1, 2640, .inr (.inl fA))), (o 6, .inl (dA 1, 32, .inr (.inl fM))), (o 0, .inr (2, mFs o (nI 2) p0 q0 r0 mu zz))] := hD
        subst hQe
        exact W.iret (v := nI 0) hx hb hr (fun t ht hW => ⟨⟨_, (fA, fM, mu, nI 2), rfl, ModPost.mk0 (c := nI 2) (by simp [grdX, rgB, optC, h_t, h_a, h_g, rg_n (show jt < 8 by omega), rg_n (show ja < 8 by omega), nI_clamp (show jt < 2 ^ 31 by omega), nI_clamp (show ja < 2 ^ 31 by omega)]) (fun k9 hk9 i9 hi9 => rfl), B1_at ht (hP.sub [2, 0, 1] rfl) (hD.sub [2, 0, 1] (by decide) rfl) trivial⟩, hS.F ht⟩) hS.2.2 dX7_gradePart_37
    · have h_a := bI_0 c_11
      refine lv_aload_n hx hb dX7_gradePart_14 rfl (lv_at hl 0 rfl) ?_
      refine lv_iconst (v := nI 1) hx hb dX7_gradePart_15 (by decide) ?_
      have hF9 := va_free (wc := [(o 0, .inr (2, mFs o th p0 q0 r0 mu zz))]) hD hS (fun q h => hA q h) [0] rfl
      refine c_i (wr := [(o 5, .inl (dA 1, 2640, .inr (.inl fA))), (o 6, .inl (dA 1, 32, .inr (.inl fM)))]) (va_runV (As := [.int (nI 1)]) (rest := []) ⟨hx, hb, hml, hown, hts⟩ (x7_refuses Z (va_A [(o 0, .inr (2, mFs o th p0 q0 r0 mu zz))] s.heap.size) s.heap.size (fun q h => Or.inr h) o th p0 q0 r0 mu zz (nI 1)) (cwV 1 hts (lw_V q2100 q2102 qs34 q107 q2103) rfl rfl rfl (by decide +kernel) ⟨Nat.le_of_ble_eq_true rfl, Nat.le_of_ble_eq_true rfl⟩) (gP_V (va_recv hK hP (ci := 2) (q0 := 0) rfl rfl) hG hS (fun q _ h => hF9 q h) ⟨rfl, (hP.sub (ws' := [(o 0, .inr (2, mFs o th p0 q0 r0 mu zz))]) [0] rfl), (hD.sub (ws' := [(o 0, .inr (2, mFs o th p0 q0 r0 mu zz))]) [0] (by decide) rfl).self⟩) rfl rfl hl.1 rfl (lv_room (Nat.le_of_ble_eq_true rfl)) dX7_gradePart_16 ⟨by first | decide | omega, by first | decide | omega⟩) hP hD hS hA [0] [1, 2] rfl rfl (by decide) (by decide) (fun r9 u9 H locs hq hX hz hk hP hD hS => ?_)
      obtain ⟨r_17, rfl⟩ : ∃ z, z = r9 := ⟨_, rfl⟩
      obtain rfl := hq
      have hP : va_P (dC, dI) vwCl [(o 5, .inl (dA 1, 2640, .inr (.inl fA))), (o 6, .inl (dA 1, 32, .inr (.inl fM))), (o 0, .inr (2, mFs o (nI 1) p0 q0 r0 mu zz))] H := hP
      have hD : va_D A [(o 5, .inl (dA 1, 2640, .inr (.inl fA))), (o 6, .inl (dA 1, 32, .inr (.inl fM))), (o 0, .inr (2, mFs o (nI 1) p0 q0 r0 mu zz))] := hD
      subst hQe
      exact W.iret (v := nI 0) hx hb hr (fun t ht hW => ⟨⟨_, (fA, fM, mu, nI 1), rfl, ModPost.mk0 (c := nI 1) (by simp [grdX, rgB, optC, h_t, h_a, rg_n (show jt < 8 by omega), nI_clamp (show jt < 2 ^ 31 by omega)]) (fun k9 hk9 i9 hi9 => rfl), B1_at ht (hP.sub [2, 0, 1] rfl) (hD.sub [2, 0, 1] (by decide) rfl) trivial⟩, hS.F ht⟩) hS.2.2 dX7_gradePart_19
set_option maxHeartbeats 4000000 in
theorem x7_scale {l : Launch} {dC : Nat → ClassId} {dI : Nat → Nat → Nat} {dA : Nat → ClassId} {s0 : State} {b0 : Addr} (Z : Z0 l dC dI dA s0 b0) (A : Nat → Prop) (sz : Nat) (hA : ∀ q : Nat, sz ≤ q → A q) (o : Nat → Nat) (th : Int32) (p0 q0 r0 : Nat) (mu : Int64) (zz : Nat → Int32) (fA fM : Nat → Int64) (Ms : Nat → MV) (t : Int32) (a : Int32) (x : Int32) (y : Int32) (hn : p0 + q0 + r0 ≤ 5) (hR : ∀ k, k < 8 → Hold fA k (Ms k)) (sR : ∀ k, k < 8 → MSm (Ms k)) : Met l yX7_scale (ws_ yX7_scale cX7_scale 5 (some .int)) ({ frames := 7, cells := 0, slots := 0, locals := 420 } : Room) (gP [.ref (o 0), .int t, .int a, .int x, .int y] s0 A (fun H => H.size = sz ∧ va_P (dC, dI) vwCl [(o 0, .inr (2, mFs o th p0 q0 r0 mu zz)), (o 5, .inl (dA 1, 2640, .inr (.inl fA))), (o 6, .inl (dA 1, 32, .inr (.inl fM)))] H ∧ va_D A [(o 0, .inr (2, mFs o th p0 q0 r0 mu zz)), (o 5, .inl (dA 1, 2640, .inr (.inl fA))), (o 6, .inl (dA 1, 32, .inr (.inl fM)))])) (va_Qi (S := (Nat → Int64) × (Nat → Int64) × Int64 × Int32) (fun r u => ModPost fA (rg t) (sclX Ms t a x y) u.2.2.2 r u.1) (B1 (dC, dI) A (fun u => mC dA o u.2.2.2 p0 q0 r0 u.2.2.1 zz u.1 u.2.1) (fun _ _ => True)) A) 0 0 A := by
  refine Met.ofW (cc := cX7_scale) (maxL := 5) (ret := (some .int)) (by decide) rfl ?_
  intro p e s m args below meth c s₁ B hml hv
  obtain ⟨hav, hG, hsz, hP, hD⟩ := hv
  have hx := B.exec
  have hb := B.bytes
  have hr := B.returns
  have hts := atoms_spec (ws := (ws_ yX7_scale cX7_scale 5 (some .int))) B.pre
  have hts : ∀ w ∈ lw_all, w.before _ s = true := fun w h => hts w (List.mem_cons_of_mem _ h)
  have hown : s.vm.findClass RX7 = some m.cls := findClass_of_methodNamed B.named
  have hlocks := B.notSynchronized
  have hK := hG.K Z
  subst hsz
  have hS : va_S A s.heap s.heap [] := va_S.rf
  have hl := lv_entry ([.ref (o 0), .int t, .int a, .int x, .int y]) (n := 5) (Nat.le_of_ble_eq_true rfl)
  rw [show entryFrame m args 5 = entryFrame m ([.ref (o 0), .int t, .int a, .int x, .int y] : List Value).toArray 5 from by rw [hav], lg_entry_eq]
  generalize (lg_sl ([.ref (o 0), .int t, .int a, .int x, .int y]) ++ List.replicate (5 - (lg_sl ([.ref (o 0), .int t, .int a, .int x, .int y])).length) Slot.unset).toArray = ls at hl ⊢
  have hl : lv_has ls 5 [(0, .ref (o 0)), (1, .int t), (2, .int a), (3, .int x), (4, .int y)] := hl
  generalize hQe : MQ below _ _ s _ _ _ = Q
  change W p l e ({ frames := 7, cells := 0, slots := 0, locals := 420 } : Room) s m args below meth c s.heap [] 0 0 Q (F0 m 0 ls [])
  refine lv_iload_n hx hb dX7_scale_0 rfl (lv_at hl 1 rfl) ?_
  refine s_i (va_runS (As := [.int t]) (rest := []) ⟨hx, hb, hml, hown, hts⟩ (x7_isRegister Z t) (va_cwS 1 hts (lw_S q2104 q2105 q107 q2106) rfl rfl rfl (by decide +kernel) ⟨Nat.le_of_ble_eq_true rfl, Nat.le_of_ble_eq_true rfl⟩) (gP_S hG hS (fun q _ h => h.elim) trivial) rfl rfl hl.1 rfl (lv_room (Nat.le_of_ble_eq_true rfl)) dX7_scale_1 ⟨by first | decide | omega, by first | decide | omega⟩) ?_
  refine lv_if_eq (tgt := 14) hx hb dX7_scale_4 (by decide) (fun c_4 => ?_) (fun c_4 => ?_)
  · have h_t := bI_0 c_4
    refine lv_aload_n hx hb dX7_scale_14 rfl (lv_at hl 0 rfl) ?_
    refine lv_iconst (v := nI 1) hx hb dX7_scale_15 (by decide) ?_
    have hF9 := va_free (wc := [(o 0, .inr (2, mFs o th p0 q0 r0 mu zz))]) hD hS (fun q h => hA q h) [0] rfl
    refine c_i (wr := [(o 5, .inl (dA 1, 2640, .inr (.inl fA))), (o 6, .inl (dA 1, 32, .inr (.inl fM)))]) (va_runV (As := [.int (nI 1)]) (rest := []) ⟨hx, hb, hml, hown, hts⟩ (x7_refuses Z (va_A [(o 0, .inr (2, mFs o th p0 q0 r0 mu zz))] s.heap.size) s.heap.size (fun q h => Or.inr h) o th p0 q0 r0 mu zz (nI 1)) (cwV 1 hts (lw_V q2100 q2102 qs34 q107 q2103) rfl rfl rfl (by decide +kernel) ⟨Nat.le_of_ble_eq_true rfl, Nat.le_of_ble_eq_true rfl⟩) (gP_V (va_recv hK hP (ci := 2) (q0 := 0) rfl rfl) hG hS (fun q _ h => hF9 q h) ⟨rfl, (hP.sub (ws' := [(o 0, .inr (2, mFs o th p0 q0 r0 mu zz))]) [0] rfl), (hD.sub (ws' := [(o 0, .inr (2, mFs o th p0 q0 r0 mu zz))]) [0] (by decide) rfl).self⟩) rfl rfl hl.1 rfl (lv_room (Nat.le_of_ble_eq_true rfl)) dX7_scale_16 ⟨by first | decide | omega, by first | decide | omega⟩) hP hD hS hA [0] [1, 2] rfl rfl (by decide) (by decide) (fun r9 u9 H locs hq hX hz hk hP hD hS => ?_)
    obtain ⟨r_1, rfl⟩ : ∃ z, z = r9 := ⟨_, rfl⟩
    obtain rfl := hq
    have hP : va_P (dC, dI) vwCl [(o 5, .inl (dA 1, 2640, .inr (.inl fA))), (o 6, .inl (dA 1, 32, .inr (.inl fM))), (o 0, .inr (2, mFs o (nI 1) p0 q0 r0 mu zz))] H := hP
    have hD : va_D A [(o 5, .inl (dA 1, 2640, .inr (.inl fA))), (o 6, .inl (dA 1, 32, .inr (.inl fM))), (o 0, .inr (2, mFs o (nI 1) p0 q0 r0 mu zz))] := hD
    subst hQe
    exact W.iret (v := nI 0) hx hb hr (fun t ht hW => ⟨⟨_, (fA, fM, mu, nI 1), rfl, ModPost.mk0 (c := nI 1) (by simp [sclX, rgB, optC, h_t]) (fun k9 hk9 i9 hi9 => rfl), B1_at ht (hP.sub [2, 0, 1] rfl) (hD.sub [2, 0, 1] (by decide) rfl) trivial⟩, hS.F ht⟩) hS.2.2 dX7_scale_19
  · have h_t := bI_1 c_4
    obtain ⟨jt, hj_t, rfl⟩ := inB_nat (by decide) h_t
    refine lv_iload_n hx hb dX7_scale_7 rfl (lv_at hl 2 rfl) ?_
    refine s_i (va_runS (As := [.int a]) (rest := []) ⟨hx, hb, hml, hown, hts⟩ (x7_isRegister Z a) (va_cwS 1 hts (lw_S q2104 q2105 q107 q2106) rfl rfl rfl (by decide +kernel) ⟨Nat.le_of_ble_eq_true rfl, Nat.le_of_ble_eq_true rfl⟩) (gP_S hG hS (fun q _ h => h.elim) trivial) rfl rfl hl.1 rfl (lv_room (Nat.le_of_ble_eq_true rfl)) dX7_scale_8 ⟨by first | decide | omega, by first | decide | omega⟩) ?_
    refine lv_if_ne (tgt := 20) hx hb dX7_scale_11 (by decide) (fun c_11 => ?_) (fun c_11 => ?_)
    · have h_a := bI_1 c_11
      obtain ⟨ja, hj_a, rfl⟩ := inB_nat (by decide) h_a
      refine lv_iload_n hx hb dX7_scale_20 rfl (lv_at hl 3 rfl) ?_
      refine lv_sipush (v := (-10000)) hx hb dX7_scale_21 (by decide) ?_
      refine lv_sipush (v := nI 10000) hx hb dX7_scale_24 (by decide) ?_
      refine s_i (va_runS (As := [.int x, .int (-10000), .int (nI 10000)]) (rest := []) ⟨hx, hb, hml, hown, hts⟩ (x7_in Z x (-10000) (nI 10000)) (va_cwS 3 hts (lw_S q2097 q2098 q107 q2099) rfl rfl rfl (by decide +kernel) ⟨Nat.le_of_ble_eq_true rfl, Nat.le_of_ble_eq_true rfl⟩) (gP_S hG hS (fun q _ h => h.elim) trivial) rfl rfl hl.1 rfl (lv_room (Nat.le_of_ble_eq_true rfl)) dX7_scale_27 ⟨by first | decide | omega, by first | decide | omega⟩) ?_
      refine lv_if_eq (tgt := 45) hx hb dX7_scale_30 (by decide) (fun c_30 => ?_) (fun c_30 => ?_)
      · have hb_30 := bI_0 c_30
        refine lv_aload_n hx hb dX7_scale_45 rfl (lv_at hl 0 rfl) ?_
        refine lv_iconst (v := nI 2) hx hb dX7_scale_46 (by decide) ?_
        have hF9 := va_free (wc := [(o 0, .inr (2, mFs o th p0 q0 r0 mu zz))]) hD hS (fun q h => hA q h) [0] rfl
        refine c_i (wr := [(o 5, .inl (dA 1, 2640, .inr (.inl fA))), (o 6, .inl (dA 1, 32, .inr (.inl fM)))]) (va_runV (As := [.int (nI 2)]) (rest := []) ⟨hx, hb, hml, hown, hts⟩ (x7_refuses Z (va_A [(o 0, .inr (2, mFs o th p0 q0 r0 mu zz))] s.heap.size) s.heap.size (fun q h => Or.inr h) o th p0 q0 r0 mu zz (nI 2)) (cwV 1 hts (lw_V q2100 q2102 qs34 q107 q2103) rfl rfl rfl (by decide +kernel) ⟨Nat.le_of_ble_eq_true rfl, Nat.le_of_ble_eq_true rfl⟩) (gP_V (va_recv hK hP (ci := 2) (q0 := 0) rfl rfl) hG hS (fun q _ h => hF9 q h) ⟨rfl, (hP.sub (ws' := [(o 0, .inr (2, mFs o th p0 q0 r0 mu zz))]) [0] rfl), (hD.sub (ws' := [(o 0, .inr (2, mFs o th p0 q0 r0 mu zz))]) [0] (by decide) rfl).self⟩) rfl rfl hl.1 rfl (lv_room (Nat.le_of_ble_eq_true rfl)) dX7_scale_47 ⟨by first | decide | omega, by first | decide | omega⟩) hP hD hS hA [0] [1, 2] rfl rfl (by decide) (by decide) (fun r9 u9 H locs hq hX hz hk hP hD hS => ?_)
        obtain ⟨r_2, rfl⟩ : ∃ z, z = r9 := ⟨_, rfl⟩
        obtain rfl := hq
        have hP : va_P (dC, dI) vwCl [(o 5, .inl (dA 1, 2640, .inr (.inl fA))), (o 6, .inl (dA 1, 32, .inr (.inl fM))), (o 0, .inr (2, mFs o (nI 2) p0 q0 r0 mu zz))] H := hP
        have hD : va_D A [(o 5, .inl (dA 1, 2640, .inr (.inl fA))), (o 6, .inl (dA 1, 32, .inr (.inl fM))), (o 0, .inr (2, mFs o (nI 2) p0 q0 r0 mu zz))] := hD
        subst hQe
        exact W.iret (v := nI 0) hx hb hr (fun t ht hW => ⟨⟨_, (fA, fM, mu, nI 2), rfl, ModPost.mk0 (c := nI 2) (by simp [sclX, rgB, optC, h_t, h_a, hb_30, rg_n (show jt < 8 by omega), rg_n (show ja < 8 by omega), nI_clamp (show jt < 2 ^ 31 by omega), nI_clamp (show ja < 2 ^ 31 by omega)]) (fun k9 hk9 i9 hi9 => rfl), B1_at ht (hP.sub [2, 0, 1] rfl) (hD.sub [2, 0, 1] (by decide) rfl) trivial⟩, hS.F ht⟩) hS.2.2 dX7_scale_50
      · have hb_30 := bI_1 c_30
        refine lv_iload hx hb dX7_scale_33 (lv_at hl 4 rfl) ?_
        refine lv_iconst (v := nI 1) hx hb dX7_scale_35 (by decide) ?_
        refine lv_sipush (v := nI 10000) hx hb dX7_scale_36 (by decide) ?_
        refine s_i (va_runS (As := [.int y, .int (nI 1), .int (nI 10000)]) (rest := []) ⟨hx, hb, hml, hown, hts⟩ (x7_in Z y (nI 1) (nI 10000)) (va_cwS 3 hts (lw_S q2097 q2098 q107 q2099) rfl rfl rfl (by decide +kernel) ⟨Nat.le_of_ble_eq_true rfl, Nat.le_of_ble_eq_true rfl⟩) (gP_S hG hS (fun q _ h => h.elim) trivial) rfl rfl hl.1 rfl (lv_room (Nat.le_of_ble_eq_true rfl)) dX7_scale_39 ⟨by first | decide | omega, by first | decide | omega⟩) ?_
        refine lv_if_ne (tgt := 51) hx hb dX7_scale_42 (by decide) (fun c_42 => ?_) (fun c_42 => ?_)
        · have hb_42 := bI_1 c_42
          refine lv_aload_n hx hb dX7_scale_51 rfl (lv_at hl 0 rfl) ?_
          refine lv_iload_n hx hb dX7_scale_52 rfl (lv_at hl 2 rfl) ?_
          refine lv_iload_n hx hb dX7_scale_53 rfl (lv_at hl 3 rfl) ?_
          refine lv_i2l (v := x.toInt64) hx hb dX7_scale_54 rfl ?_
          refine lv_iload hx hb dX7_scale_55 (lv_at hl 4 rfl) ?_
          refine lv_i2l (v := y.toInt64) hx hb dX7_scale_57 rfl ?_
          refine lv_bipush (v := nI 24) hx hb dX7_scale_58 (by decide) ?_
          have hF9 := va_free (wc := [(o 0, .inr (2, mFs o th p0 q0 r0 mu zz)), (o 5, .inl (dA 1, 2640, .inr (.inl fA))), (o 6, .inl (dA 1, 32, .inr (.inl fM)))]) hD hS (fun q h => hA q h) [0, 1, 2] rfl
          refine c_i (wr := []) (va_runV (As := [.int (nI ja), .long x.toInt64, .long y.toInt64, .int (nI 24)]) (rest := []) ⟨hx, hb, hml, hown, hts⟩ (x7_scales Z (va_A [(o 0, .inr (2, mFs o th p0 q0 r0 mu zz)), (o 5, .inl (dA 1, 2640, .inr (.inl fA))), (o 6, .inl (dA 1, 32, .inr (.inl fM)))] s.heap.size) s.heap.size (fun q h => Or.inr h) o th p0 q0 r0 mu zz fA fM ja 24 x.toInt64 y.toInt64 (Ms ja) (inB_10k hb_30) (inB_10k1 hb_42).1 (inB_10k1 hb_42).2 (by omega) (by omega) (hR ja (by omega)) (sR ja (by omega))) (cwV 4 hts (lw_V q2176 q2178 qs47 q107 q2179) rfl rfl rfl (by decide +kernel) ⟨Nat.le_of_ble_eq_true rfl, Nat.le_of_ble_eq_true rfl⟩) (gP_V (va_recv hK hP (ci := 2) (q0 := 0) rfl rfl) hG hS (fun q _ h => hF9 q h) ⟨rfl, (hP.sub (ws' := [(o 0, .inr (2, mFs o th p0 q0 r0 mu zz)), (o 5, .inl (dA 1, 2640, .inr (.inl fA))), (o 6, .inl (dA 1, 32, .inr (.inl fM)))]) [0, 1, 2] rfl), (hD.sub (ws' := [(o 0, .inr (2, mFs o th p0 q0 r0 mu zz)), (o 5, .inl (dA 1, 2640, .inr (.inl fA))), (o 6, .inl (dA 1, 32, .inr (.inl fM)))]) [0, 1, 2] (by decide) rfl).self⟩) rfl rfl hl.1 rfl (lv_room (Nat.le_of_ble_eq_true rfl)) dX7_scale_60 ⟨by first | decide | omega, by first | decide | omega⟩) hP hD hS hA [0, 1, 2] [] rfl rfl (by decide) (by decide) (fun r9 u9 H locs hq hX hz hk hP hD hS => ?_)
          obtain ⟨fA_3, fM_4, mu_5⟩ := u9
          obtain ⟨r_6, rfl⟩ : ∃ z, z = r9 := ⟨_, rfl⟩
          have hq_7 := hq
          try dsimp only at hq_7
          have hP : va_P (dC, dI) vwCl [(o 0, .inr (2, mFs o th p0 q0 r0 mu_5 zz)), (o 5, .inl (dA 1, 2640, .inr (.inl fA_3))), (o 6, .inl (dA 1, 32, .inr (.inl fM_4)))] H := hP
          have hD : va_D A [(o 0, .inr (2, mFs o th p0 q0 r0 mu_5 zz)), (o 5, .inl (dA 1, 2640, .inr (.inl fA_3))), (o 6, .inl (dA 1, 32, .inr (.inl fM_4)))] := hD
          rcases hq_7.cases with ⟨P_8, e_8, rfl, hH_8, hS_8⟩ | ⟨e_8, rfl, hE_8⟩
          · have sm_9 : MSm P_8 := scaS_sm (inB_10k1 hb_42).1 (inB_10k1 hb_42).2 (sR ja (by omega)) e_8
            have hh_10 := hS_8.hold (j := jt) (by omega) (hR jt (by omega))
            have hh_11 := hS_8.hold (j := ja) (by omega) (hR ja (by omega))
            refine lv_if_eq (tgt := 76) hx hb dX7_scale_63 (by decide) (fun c_63 => ?_) (fun c_63 => ?_)
            · exact absurd c_63 (by decide)
            refine lv_aload_n hx hb dX7_scale_66 rfl (lv_at hl 0 rfl) ?_
            refine lv_bipush (v := nI 24) hx hb dX7_scale_67 (by decide) ?_
            refine lv_iload_n hx hb dX7_scale_69 rfl (lv_at hl 1 rfl) ?_
            have hF9 := va_free (wc := [(o 0, .inr (2, mFs o th p0 q0 r0 mu_5 zz)), (o 5, .inl (dA 1, 2640, .inr (.inl fA_3)))]) hD hS (fun q h => hA q h) [0, 1] rfl
            refine c_i (wr := [(o 6, .inl (dA 1, 32, .inr (.inl fM_4)))]) (va_runV (As := [.int (nI 24), .int (nI jt)]) (rest := []) ⟨hx, hb, hml, hown, hts⟩ (x7_gives Z (va_A [(o 0, .inr (2, mFs o th p0 q0 r0 mu_5 zz)), (o 5, .inl (dA 1, 2640, .inr (.inl fA_3)))] H.size) H.size (fun q h => Or.inr h) o th p0 q0 r0 mu_5 zz fA_3 fM_4 24 jt (by omega) (by omega)) (cwV 2 hts (lw_V q2181 q2183 qs48 q107 q2184) rfl rfl rfl (by decide +kernel) ⟨Nat.le_of_ble_eq_true rfl, Nat.le_of_ble_eq_true rfl⟩) (gP_V (va_recv hK hP (ci := 2) (q0 := 0) rfl rfl) hG hS (fun q _ h => hF9 q h) ⟨rfl, (hP.sub (ws' := [(o 0, .inr (2, mFs o th p0 q0 r0 mu_5 zz)), (o 5, .inl (dA 1, 2640, .inr (.inl fA_3)))]) [0, 1] rfl), (hD.sub (ws' := [(o 0, .inr (2, mFs o th p0 q0 r0 mu_5 zz)), (o 5, .inl (dA 1, 2640, .inr (.inl fA_3)))]) [0, 1] (by decide) rfl).self⟩) rfl rfl hl.1 rfl (lv_room (Nat.le_of_ble_eq_true rfl)) dX7_scale_70 ⟨by first | decide | omega, by first | decide | omega⟩) hP hD hS hA [0, 1] [2] rfl rfl (by decide) (by decide) (fun r9 u9 H locs hq hX hz hk hP hD hS => ?_)
            obtain ⟨r_12, rfl⟩ : ∃ z, z = r9 := ⟨_, rfl⟩
            obtain rfl := hq
            have hP : va_P (dC, dI) vwCl [(o 6, .inl (dA 1, 32, .inr (.inl fM_4))), (o 0, .inr (2, mFs o (nI 0) p0 q0 r0 mu_5 zz)), (o 5, .inl (dA 1, 2640, .inr (.inl (cpS fA_3 24 jt))))] H := hP
            have hD : va_D A [(o 6, .inl (dA 1, 32, .inr (.inl fM_4))), (o 0, .inr (2, mFs o (nI 0) p0 q0 r0 mu_5 zz)), (o 5, .inl (dA 1, 2640, .inr (.inl (cpS fA_3 24 jt))))] := hD
            have hc_14 := cpS_hold (t := jt) hH_8
            have hs_15 := cpS_same (fA := fA_3) (k := 24) (t := jt)
            generalize cpS fA_3 24 jt = fA_13 at hP hD hc_14 hs_15 ⊢
            have hh_16 := hs_15.hold (j := 24) (by omega) hH_8
            refine lv_goto (tgt := 81) hx hb dX7_scale_73 (by decide) ?_
            subst hQe
            exact W.iret (v := nI (cntN (fun j => fA_13 (33 * jt + 1 + j)) 32)) hx hb hr (fun t ht hW => ⟨⟨_, (fA_13, fM_4, mu_5, nI 0), rfl, (by rw [rg_n (show jt < 8 by omega)]; exact ModPost.mk1 (P := P_8) (by simp [sclX, rgB, optC, h_t, h_a, hb_30, hb_42, e_8, rg_n (show jt < 8 by omega), rg_n (show ja < 8 by omega), nI_clamp (show jt < 2 ^ 31 by omega), nI_clamp (show ja < 2 ^ 31 by omega)]) hc_14 (fun k9 hk9 i9 hi9 => by (try dsimp only [outH] at hk9); show fA_13 (33 * k9 + i9) = fA (33 * k9 + i9); rw [hs_15 _ (by omega), hS_8 _ (by omega)])), B1_at ht (hP.sub [1, 2, 0] rfl) (hD.sub [1, 2, 0] (by decide) rfl) trivial⟩, hS.F ht⟩) hS.2.2 dX7_scale_81
          · have hh_17 : Hold fA_3 jt (Ms jt) := by rw [hE_8]; exact (hR jt (by omega))
            have hh_18 : Hold fA_3 ja (Ms ja) := by rw [hE_8]; exact (hR ja (by omega))
            refine lv_if_eq (tgt := 76) hx hb dX7_scale_63 (by decide) (fun c_63 => ?_) (fun c_63 => ?_)
            rotate_left
            · exact absurd (by decide) c_63
            refine lv_aload_n hx hb dX7_scale_76 rfl (lv_at hl 0 rfl) ?_
            refine lv_iconst (v := nI 3) hx hb dX7_scale_77 (by decide) ?_
            have hF9 := va_free (wc := [(o 0, .inr (2, mFs o th p0 q0 r0 mu_5 zz))]) hD hS (fun q h => hA q h) [0] rfl
            refine c_i (wr := [(o 5, .inl (dA 1, 2640, .inr (.inl fA_3))), (o 6, .inl (dA 1, 32, .inr (.inl fM_4)))]) (va_runV (As := [.int (nI 3)]) (rest := []) ⟨hx, hb, hml, hown, hts⟩ (x7_refuses Z (va_A [(o 0, .inr (2, mFs o th p0 q0 r0 mu_5 zz))] H.size) H.size (fun q h => Or.inr h) o th p0 q0 r0 mu_5 zz (nI 3)) (cwV 1 hts (lw_V q2100 q2102 qs34 q107 q2103) rfl rfl rfl (by decide +kernel) ⟨Nat.le_of_ble_eq_true rfl, Nat.le_of_ble_eq_true rfl⟩) (gP_V (va_recv hK hP (ci := 2) (q0 := 0) rfl rfl) hG hS (fun q _ h => hF9 q h) ⟨rfl, (hP.sub (ws' := [(o 0, .inr (2, mFs o th p0 q0 r0 mu_5 zz))]) [0] rfl), (hD.sub (ws' := [(o 0, .inr (2, mFs o th p0 q0 r0 mu_5 zz))]) [0] (by decide) rfl).self⟩) rfl rfl hl.1 rfl (lv_room (Nat.le_of_ble_eq_true rfl)) dX7_scale_78 ⟨by first | decide | omega, by first | decide | omega⟩) hP hD hS hA [0] [1, 2] rfl rfl (by decide) (by decide) (fun r9 u9 H locs hq hX hz hk hP hD hS => ?_)
            obtain ⟨r_19, rfl⟩ : ∃ z, z = r9 := ⟨_, rfl⟩
            obtain rfl := hq
            have hP : va_P (dC, dI) vwCl [(o 5, .inl (dA 1, 2640, .inr (.inl fA_3))), (o 6, .inl (dA 1, 32, .inr (.inl fM_4))), (o 0, .inr (2, mFs o (nI 3) p0 q0 r0 mu_5 zz))] H := hP
            have hD : va_D A [(o 5, .inl (dA 1, 2640, .inr (.inl fA_3))), (o 6, .inl (dA 1, 32, .inr (.inl fM_4))), (o 0, .inr (2, mFs o (nI 3) p0 q0 r0 mu_5 zz))] := hD
            subst hQe
            exact W.iret (v := nI 0) hx hb hr (fun t ht hW => ⟨⟨_, (fA_3, fM_4, mu_5, nI 3), rfl, ModPost.mk0 (c := nI 3) (by simp [sclX, rgB, optC, h_t, h_a, hb_30, hb_42, e_8, rg_n (show jt < 8 by omega), rg_n (show ja < 8 by omega), nI_clamp (show jt < 2 ^ 31 by omega), nI_clamp (show ja < 2 ^ 31 by omega)]) (fun k9 hk9 i9 hi9 => by (try dsimp only [outH] at hk9); show fA_3 (33 * k9 + i9) = fA (33 * k9 + i9); rw [hE_8]), B1_at ht (hP.sub [2, 0, 1] rfl) (hD.sub [2, 0, 1] (by decide) rfl) trivial⟩, hS.F ht⟩) hS.2.2 dX7_scale_81
        · have hb_42 := bI_0 c_42
          refine lv_aload_n hx hb dX7_scale_45 rfl (lv_at hl 0 rfl) ?_
          refine lv_iconst (v := nI 2) hx hb dX7_scale_46 (by decide) ?_
          have hF9 := va_free (wc := [(o 0, .inr (2, mFs o th p0 q0 r0 mu zz))]) hD hS (fun q h => hA q h) [0] rfl
          refine c_i (wr := [(o 5, .inl (dA 1, 2640, .inr (.inl fA))), (o 6, .inl (dA 1, 32, .inr (.inl fM)))]) (va_runV (As := [.int (nI 2)]) (rest := []) ⟨hx, hb, hml, hown, hts⟩ (x7_refuses Z (va_A [(o 0, .inr (2, mFs o th p0 q0 r0 mu zz))] s.heap.size) s.heap.size (fun q h => Or.inr h) o th p0 q0 r0 mu zz (nI 2)) (cwV 1 hts (lw_V q2100 q2102 qs34 q107 q2103) rfl rfl rfl (by decide +kernel) ⟨Nat.le_of_ble_eq_true rfl, Nat.le_of_ble_eq_true rfl⟩) (gP_V (va_recv hK hP (ci := 2) (q0 := 0) rfl rfl) hG hS (fun q _ h => hF9 q h) ⟨rfl, (hP.sub (ws' := [(o 0, .inr (2, mFs o th p0 q0 r0 mu zz))]) [0] rfl), (hD.sub (ws' := [(o 0, .inr (2, mFs o th p0 q0 r0 mu zz))]) [0] (by decide) rfl).self⟩) rfl rfl hl.1 rfl (lv_room (Nat.le_of_ble_eq_true rfl)) dX7_scale_47 ⟨by first | decide | omega, by first | decide | omega⟩) hP hD hS hA [0] [1, 2] rfl rfl (by decide) (by decide) (fun r9 u9 H locs hq hX hz hk hP hD hS => ?_)
          obtain ⟨r_20, rfl⟩ : ∃ z, z = r9 := ⟨_, rfl⟩
          obtain rfl := hq
          have hP : va_P (dC, dI) vwCl [(o 5, .inl (dA 1, 2640, .inr (.inl fA))), (o 6, .inl (dA 1, 32, .inr (.inl fM))), (o 0, .inr (2, mFs o (nI 2) p0 q0 r0 mu zz))] H := hP
          have hD : va_D A [(o 5, .inl (dA 1, 2640, .inr (.inl fA))), (o 6, .inl (dA 1, 32, .inr (.inl fM))), (o 0, .inr (2, mFs o (nI 2) p0 q0 r0 mu zz))] := hD
          subst hQe
          exact W.iret (v := nI 0) hx hb hr (fun t ht hW => ⟨⟨_, (fA, fM, mu, nI 2), rfl, ModPost.mk0 (c := nI 2) (by simp [sclX, rgB, optC, h_t, h_a, hb_30, hb_42, rg_n (show jt < 8 by omega), rg_n (show ja < 8 by omega), nI_clamp (show jt < 2 ^ 31 by omega), nI_clamp (show ja < 2 ^ 31 by omega)]) (fun k9 hk9 i9 hi9 => rfl), B1_at ht (hP.sub [2, 0, 1] rfl) (hD.sub [2, 0, 1] (by decide) rfl) trivial⟩, hS.F ht⟩) hS.2.2 dX7_scale_50
    · have h_a := bI_0 c_11
      refine lv_aload_n hx hb dX7_scale_14 rfl (lv_at hl 0 rfl) ?_
      refine lv_iconst (v := nI 1) hx hb dX7_scale_15 (by decide) ?_
      have hF9 := va_free (wc := [(o 0, .inr (2, mFs o th p0 q0 r0 mu zz))]) hD hS (fun q h => hA q h) [0] rfl
      refine c_i (wr := [(o 5, .inl (dA 1, 2640, .inr (.inl fA))), (o 6, .inl (dA 1, 32, .inr (.inl fM)))]) (va_runV (As := [.int (nI 1)]) (rest := []) ⟨hx, hb, hml, hown, hts⟩ (x7_refuses Z (va_A [(o 0, .inr (2, mFs o th p0 q0 r0 mu zz))] s.heap.size) s.heap.size (fun q h => Or.inr h) o th p0 q0 r0 mu zz (nI 1)) (cwV 1 hts (lw_V q2100 q2102 qs34 q107 q2103) rfl rfl rfl (by decide +kernel) ⟨Nat.le_of_ble_eq_true rfl, Nat.le_of_ble_eq_true rfl⟩) (gP_V (va_recv hK hP (ci := 2) (q0 := 0) rfl rfl) hG hS (fun q _ h => hF9 q h) ⟨rfl, (hP.sub (ws' := [(o 0, .inr (2, mFs o th p0 q0 r0 mu zz))]) [0] rfl), (hD.sub (ws' := [(o 0, .inr (2, mFs o th p0 q0 r0 mu zz))]) [0] (by decide) rfl).self⟩) rfl rfl hl.1 rfl (lv_room (Nat.le_of_ble_eq_true rfl)) dX7_scale_16 ⟨by first | decide | omega, by first | decide | omega⟩) hP hD hS hA [0] [1, 2] rfl rfl (by decide) (by decide) (fun r9 u9 H locs hq hX hz hk hP hD hS => ?_)
      obtain ⟨r_21, rfl⟩ : ∃ z, z = r9 := ⟨_, rfl⟩
      obtain rfl := hq
      have hP : va_P (dC, dI) vwCl [(o 5, .inl (dA 1, 2640, .inr (.inl fA))), (o 6, .inl (dA 1, 32, .inr (.inl fM))), (o 0, .inr (2, mFs o (nI 1) p0 q0 r0 mu zz))] H := hP
      have hD : va_D A [(o 5, .inl (dA 1, 2640, .inr (.inl fA))), (o 6, .inl (dA 1, 32, .inr (.inl fM))), (o 0, .inr (2, mFs o (nI 1) p0 q0 r0 mu zz))] := hD
      subst hQe
      exact W.iret (v := nI 0) hx hb hr (fun t ht hW => ⟨⟨_, (fA, fM, mu, nI 1), rfl, ModPost.mk0 (c := nI 1) (by simp [sclX, rgB, optC, h_t, h_a, rg_n (show jt < 8 by omega), nI_clamp (show jt < 2 ^ 31 by omega)]) (fun k9 hk9 i9 hi9 => rfl), B1_at ht (hP.sub [2, 0, 1] rfl) (hD.sub [2, 0, 1] (by decide) rfl) trivial⟩, hS.F ht⟩) hS.2.2 dX7_scale_19
set_option maxHeartbeats 4000000 in
theorem x7_apply {l : Launch} {dC : Nat → ClassId} {dI : Nat → Nat → Nat} {dA : Nat → ClassId} {s0 : State} {b0 : Addr} (Z : Z0 l dC dI dA s0 b0) (A : Nat → Prop) (sz : Nat) (hA : ∀ q : Nat, sz ≤ q → A q) (o : Nat → Nat) (th : Int32) (p0 q0 r0 : Nat) (mu : Int64) (zz : Nat → Int32) (fA fM : Nat → Int64) (Ms : Nat → MV) (t : Int32) (v : Int32) (a : Int32) (hn : p0 + q0 + r0 ≤ 5) (hR : ∀ k, k < 8 → Hold fA k (Ms k)) (sR : ∀ k, k < 8 → MSm (Ms k)) : Met l yX7_apply (ws_ yX7_apply cX7_apply 5 (some .int)) ({ frames := 8, cells := 0, slots := 0, locals := 480 } : Room) (gP [.ref (o 0), .int t, .int v, .int a] s0 A (fun H => H.size = sz ∧ va_P (dC, dI) vwCl [(o 0, .inr (2, mFs o th p0 q0 r0 mu zz)), (o 5, .inl (dA 1, 2640, .inr (.inl fA))), (o 6, .inl (dA 1, 32, .inr (.inl fM)))] H ∧ va_D A [(o 0, .inr (2, mFs o th p0 q0 r0 mu zz)), (o 5, .inl (dA 1, 2640, .inr (.inl fA))), (o 6, .inl (dA 1, 32, .inr (.inl fM)))])) (va_Qi (S := (Nat → Int64) × (Nat → Int64) × Int64 × Int32) (fun r u => ModPost fA (rg t) (appX p0 q0 r0 Ms t v a) u.2.2.2 r u.1) (B1 (dC, dI) A (fun u => mC dA o u.2.2.2 p0 q0 r0 u.2.2.1 zz u.1 u.2.1) (fun _ _ => True)) A) 0 0 A := by
  refine Met.ofW (cc := cX7_apply) (maxL := 5) (ret := (some .int)) (by decide) rfl ?_
  intro p e s m args below meth c s₁ B hml hv
  obtain ⟨hav, hG, hsz, hP, hD⟩ := hv
  have hx := B.exec
  have hb := B.bytes
  have hr := B.returns
  have hts := atoms_spec (ws := (ws_ yX7_apply cX7_apply 5 (some .int))) B.pre
  have hts : ∀ w ∈ lw_all, w.before _ s = true := fun w h => hts w (List.mem_cons_of_mem _ h)
  have hown : s.vm.findClass RX7 = some m.cls := findClass_of_methodNamed B.named
  have hlocks := B.notSynchronized
  have hK := hG.K Z
  subst hsz
  have hS : va_S A s.heap s.heap [] := va_S.rf
  have hl := lv_entry ([.ref (o 0), .int t, .int v, .int a]) (n := 5) (Nat.le_of_ble_eq_true rfl)
  rw [show entryFrame m args 5 = entryFrame m ([.ref (o 0), .int t, .int v, .int a] : List Value).toArray 5 from by rw [hav], lg_entry_eq]
  generalize (lg_sl ([.ref (o 0), .int t, .int v, .int a]) ++ List.replicate (5 - (lg_sl ([.ref (o 0), .int t, .int v, .int a])).length) Slot.unset).toArray = ls at hl ⊢
  have hl : lv_has ls 5 [(0, .ref (o 0)), (1, .int t), (2, .int v), (3, .int a)] := hl
  generalize hQe : MQ below _ _ s _ _ _ = Q
  change W p l e ({ frames := 8, cells := 0, slots := 0, locals := 480 } : Room) s m args below meth c s.heap [] 0 0 Q (F0 m 0 ls [])
  refine lv_iload_n hx hb dX7_apply_0 rfl (lv_at hl 1 rfl) ?_
  refine s_i (va_runS (As := [.int t]) (rest := []) ⟨hx, hb, hml, hown, hts⟩ (x7_isRegister Z t) (va_cwS 1 hts (lw_S q2104 q2105 q107 q2106) rfl rfl rfl (by decide +kernel) ⟨Nat.le_of_ble_eq_true rfl, Nat.le_of_ble_eq_true rfl⟩) (gP_S hG hS (fun q _ h => h.elim) trivial) rfl rfl hl.1 rfl (lv_room (Nat.le_of_ble_eq_true rfl)) dX7_apply_1 ⟨by first | decide | omega, by first | decide | omega⟩) ?_
  refine lv_if_eq (tgt := 21) hx hb dX7_apply_4 (by decide) (fun c_4 => ?_) (fun c_4 => ?_)
  · have h_t := bI_0 c_4
    refine lv_aload_n hx hb dX7_apply_21 rfl (lv_at hl 0 rfl) ?_
    refine lv_iconst (v := nI 1) hx hb dX7_apply_22 (by decide) ?_
    have hF9 := va_free (wc := [(o 0, .inr (2, mFs o th p0 q0 r0 mu zz))]) hD hS (fun q h => hA q h) [0] rfl
    refine c_i (wr := [(o 5, .inl (dA 1, 2640, .inr (.inl fA))), (o 6, .inl (dA 1, 32, .inr (.inl fM)))]) (va_runV (As := [.int (nI 1)]) (rest := []) ⟨hx, hb, hml, hown, hts⟩ (x7_refuses Z (va_A [(o 0, .inr (2, mFs o th p0 q0 r0 mu zz))] s.heap.size) s.heap.size (fun q h => Or.inr h) o th p0 q0 r0 mu zz (nI 1)) (cwV 1 hts (lw_V q2100 q2102 qs34 q107 q2103) rfl rfl rfl (by decide +kernel) ⟨Nat.le_of_ble_eq_true rfl, Nat.le_of_ble_eq_true rfl⟩) (gP_V (va_recv hK hP (ci := 2) (q0 := 0) rfl rfl) hG hS (fun q _ h => hF9 q h) ⟨rfl, (hP.sub (ws' := [(o 0, .inr (2, mFs o th p0 q0 r0 mu zz))]) [0] rfl), (hD.sub (ws' := [(o 0, .inr (2, mFs o th p0 q0 r0 mu zz))]) [0] (by decide) rfl).self⟩) rfl rfl hl.1 rfl (lv_room (Nat.le_of_ble_eq_true rfl)) dX7_apply_23 ⟨by first | decide | omega, by first | decide | omega⟩) hP hD hS hA [0] [1, 2] rfl rfl (by decide) (by decide) (fun r9 u9 H locs hq hX hz hk hP hD hS => ?_)
    obtain ⟨r_1, rfl⟩ : ∃ z, z = r9 := ⟨_, rfl⟩
    obtain rfl := hq
    have hP : va_P (dC, dI) vwCl [(o 5, .inl (dA 1, 2640, .inr (.inl fA))), (o 6, .inl (dA 1, 32, .inr (.inl fM))), (o 0, .inr (2, mFs o (nI 1) p0 q0 r0 mu zz))] H := hP
    have hD : va_D A [(o 5, .inl (dA 1, 2640, .inr (.inl fA))), (o 6, .inl (dA 1, 32, .inr (.inl fM))), (o 0, .inr (2, mFs o (nI 1) p0 q0 r0 mu zz))] := hD
    subst hQe
    exact W.iret (v := nI 0) hx hb hr (fun t ht hW => ⟨⟨_, (fA, fM, mu, nI 1), rfl, ModPost.mk0 (c := nI 1) (by simp [appX, rgB, optC, h_t]) (fun k9 hk9 i9 hi9 => rfl), B1_at ht (hP.sub [2, 0, 1] rfl) (hD.sub [2, 0, 1] (by decide) rfl) trivial⟩, hS.F ht⟩) hS.2.2 dX7_apply_26
  · have h_t := bI_1 c_4
    obtain ⟨jt, hj_t, rfl⟩ := inB_nat (by decide) h_t
    refine lv_iload_n hx hb dX7_apply_7 rfl (lv_at hl 2 rfl) ?_
    refine s_i (va_runS (As := [.int v]) (rest := []) ⟨hx, hb, hml, hown, hts⟩ (x7_isRegister Z v) (va_cwS 1 hts (lw_S q2104 q2105 q107 q2106) rfl rfl rfl (by decide +kernel) ⟨Nat.le_of_ble_eq_true rfl, Nat.le_of_ble_eq_true rfl⟩) (gP_S hG hS (fun q _ h => h.elim) trivial) rfl rfl hl.1 rfl (lv_room (Nat.le_of_ble_eq_true rfl)) dX7_apply_8 ⟨by first | decide | omega, by first | decide | omega⟩) ?_
    refine lv_if_eq (tgt := 21) hx hb dX7_apply_11 (by decide) (fun c_11 => ?_) (fun c_11 => ?_)
    · have h_v := bI_0 c_11
      refine lv_aload_n hx hb dX7_apply_21 rfl (lv_at hl 0 rfl) ?_
      refine lv_iconst (v := nI 1) hx hb dX7_apply_22 (by decide) ?_
      have hF9 := va_free (wc := [(o 0, .inr (2, mFs o th p0 q0 r0 mu zz))]) hD hS (fun q h => hA q h) [0] rfl
      refine c_i (wr := [(o 5, .inl (dA 1, 2640, .inr (.inl fA))), (o 6, .inl (dA 1, 32, .inr (.inl fM)))]) (va_runV (As := [.int (nI 1)]) (rest := []) ⟨hx, hb, hml, hown, hts⟩ (x7_refuses Z (va_A [(o 0, .inr (2, mFs o th p0 q0 r0 mu zz))] s.heap.size) s.heap.size (fun q h => Or.inr h) o th p0 q0 r0 mu zz (nI 1)) (cwV 1 hts (lw_V q2100 q2102 qs34 q107 q2103) rfl rfl rfl (by decide +kernel) ⟨Nat.le_of_ble_eq_true rfl, Nat.le_of_ble_eq_true rfl⟩) (gP_V (va_recv hK hP (ci := 2) (q0 := 0) rfl rfl) hG hS (fun q _ h => hF9 q h) ⟨rfl, (hP.sub (ws' := [(o 0, .inr (2, mFs o th p0 q0 r0 mu zz))]) [0] rfl), (hD.sub (ws' := [(o 0, .inr (2, mFs o th p0 q0 r0 mu zz))]) [0] (by decide) rfl).self⟩) rfl rfl hl.1 rfl (lv_room (Nat.le_of_ble_eq_true rfl)) dX7_apply_23 ⟨by first | decide | omega, by first | decide | omega⟩) hP hD hS hA [0] [1, 2] rfl rfl (by decide) (by decide) (fun r9 u9 H locs hq hX hz hk hP hD hS => ?_)
      obtain ⟨r_2, rfl⟩ : ∃ z, z = r9 := ⟨_, rfl⟩
      obtain rfl := hq
      have hP : va_P (dC, dI) vwCl [(o 5, .inl (dA 1, 2640, .inr (.inl fA))), (o 6, .inl (dA 1, 32, .inr (.inl fM))), (o 0, .inr (2, mFs o (nI 1) p0 q0 r0 mu zz))] H := hP
      have hD : va_D A [(o 5, .inl (dA 1, 2640, .inr (.inl fA))), (o 6, .inl (dA 1, 32, .inr (.inl fM))), (o 0, .inr (2, mFs o (nI 1) p0 q0 r0 mu zz))] := hD
      subst hQe
      exact W.iret (v := nI 0) hx hb hr (fun t ht hW => ⟨⟨_, (fA, fM, mu, nI 1), rfl, ModPost.mk0 (c := nI 1) (by simp [appX, rgB, optC, h_t, h_v, rg_n (show jt < 8 by omega), nI_clamp (show jt < 2 ^ 31 by omega)]) (fun k9 hk9 i9 hi9 => rfl), B1_at ht (hP.sub [2, 0, 1] rfl) (hD.sub [2, 0, 1] (by decide) rfl) trivial⟩, hS.F ht⟩) hS.2.2 dX7_apply_26
    · have h_v := bI_1 c_11
      obtain ⟨jv, hj_v, rfl⟩ := inB_nat (by decide) h_v
      refine lv_iload_n hx hb dX7_apply_14 rfl (lv_at hl 3 rfl) ?_
      refine s_i (va_runS (As := [.int a]) (rest := []) ⟨hx, hb, hml, hown, hts⟩ (x7_isRegister Z a) (va_cwS 1 hts (lw_S q2104 q2105 q107 q2106) rfl rfl rfl (by decide +kernel) ⟨Nat.le_of_ble_eq_true rfl, Nat.le_of_ble_eq_true rfl⟩) (gP_S hG hS (fun q _ h => h.elim) trivial) rfl rfl hl.1 rfl (lv_room (Nat.le_of_ble_eq_true rfl)) dX7_apply_15 ⟨by first | decide | omega, by first | decide | omega⟩) ?_
      refine lv_if_ne (tgt := 27) hx hb dX7_apply_18 (by decide) (fun c_18 => ?_) (fun c_18 => ?_)
      · have h_a := bI_1 c_18
        obtain ⟨ja, hj_a, rfl⟩ := inB_nat (by decide) h_a
        refine lv_aload_n hx hb dX7_apply_27 rfl (lv_at hl 0 rfl) ?_
        refine lv_iload_n hx hb dX7_apply_28 rfl (lv_at hl 2 rfl) ?_
        refine s_i (va_runV (As := [.int (nI jv)]) (rest := []) ⟨hx, hb, hml, hown, hts⟩ (x7_isMixed Z o th p0 q0 r0 mu zz fA jv (Ms jv) (by omega) (hR jv (by omega))) (cwV 1 hts (lw_V q2269 q2271 qs58 q107 q2272) rfl rfl rfl (by decide +kernel) ⟨Nat.le_of_ble_eq_true rfl, Nat.le_of_ble_eq_true rfl⟩) (gP_V (va_recv hK hP (ci := 2) (q0 := 0) rfl rfl) hG hS (fun q _ h => h.elim) (hP.sub (ws' := [(o 0, .inr (2, mFs o th p0 q0 r0 mu zz)), (o 5, .inl (dA 1, 2640, .inr (.inl fA)))]) [0, 1] rfl)) rfl rfl hl.1 rfl (lv_room (Nat.le_of_ble_eq_true rfl)) dX7_apply_29 ⟨by first | decide | omega, by first | decide | omega⟩) ?_
        refine lv_if_eq (tgt := 41) hx hb dX7_apply_32 (by decide) (fun c_32 => ?_) (fun c_32 => ?_)
        · have hb_32 := bI_0 c_32
          refine lv_aload_n hx hb dX7_apply_41 rfl (lv_at hl 0 rfl) ?_
          refine lv_iload_n hx hb dX7_apply_42 rfl (lv_at hl 2 rfl) ?_
          refine lv_bipush (v := nI 25) hx hb dX7_apply_43 (by decide) ?_
          have hF9 := va_free (wc := [(o 0, .inr (2, mFs o th p0 q0 r0 mu zz)), (o 5, .inl (dA 1, 2640, .inr (.inl fA))), (o 6, .inl (dA 1, 32, .inr (.inl fM)))]) hD hS (fun q h => hA q h) [0, 1, 2] rfl
          refine c_i (wr := []) (va_runV (As := [.int (nI jv), .int (nI 25)]) (rest := []) ⟨hx, hb, hml, hown, hts⟩ (x7_laysSquare Z (va_A [(o 0, .inr (2, mFs o th p0 q0 r0 mu zz)), (o 5, .inl (dA 1, 2640, .inr (.inl fA))), (o 6, .inl (dA 1, 32, .inr (.inl fM)))] s.heap.size) s.heap.size (fun q h => Or.inr h) o th p0 q0 r0 mu zz fA fM jv 25 (Ms jv) (by omega) (by omega) (by omega) (by omega) (by omega) (hR jv (by omega)) (sR jv (by omega))) (cwV 2 hts (lw_V q2201 q2203 qs52 q107 q2204) rfl rfl rfl (by decide +kernel) ⟨Nat.le_of_ble_eq_true rfl, Nat.le_of_ble_eq_true rfl⟩) (gP_V (va_recv hK hP (ci := 2) (q0 := 0) rfl rfl) hG hS (fun q _ h => hF9 q h) ⟨rfl, (hP.sub (ws' := [(o 0, .inr (2, mFs o th p0 q0 r0 mu zz)), (o 5, .inl (dA 1, 2640, .inr (.inl fA))), (o 6, .inl (dA 1, 32, .inr (.inl fM)))]) [0, 1, 2] rfl), (hD.sub (ws' := [(o 0, .inr (2, mFs o th p0 q0 r0 mu zz)), (o 5, .inl (dA 1, 2640, .inr (.inl fA))), (o 6, .inl (dA 1, 32, .inr (.inl fM)))]) [0, 1, 2] (by decide) rfl).self⟩) rfl rfl hl.1 rfl (lv_room (Nat.le_of_ble_eq_true rfl)) dX7_apply_45 ⟨by first | decide | omega, by first | decide | omega⟩) hP hD hS hA [0, 1, 2] [] rfl rfl (by decide) (by decide) (fun r9 u9 H locs hq hX hz hk hP hD hS => ?_)
          obtain ⟨fA_3, fM_4, mu_5⟩ := u9
          obtain ⟨r_6, rfl⟩ : ∃ z, z = r9 := ⟨_, rfl⟩
          have hq_7 := hq
          try dsimp only at hq_7
          have hP : va_P (dC, dI) vwCl [(o 0, .inr (2, mFs o th p0 q0 r0 mu_5 zz)), (o 5, .inl (dA 1, 2640, .inr (.inl fA_3))), (o 6, .inl (dA 1, 32, .inr (.inl fM_4)))] H := hP
          have hD : va_D A [(o 0, .inr (2, mFs o th p0 q0 r0 mu_5 zz)), (o 5, .inl (dA 1, 2640, .inr (.inl fA_3))), (o 6, .inl (dA 1, 32, .inr (.inl fM_4)))] := hD
          obtain ⟨hR_8, hq_7⟩ := hq_7
          have smR_8 := trnS_sm (op := 0) (p := p0) (q := q0) (r := r0) (by omega) (sR jv (by omega))
          rcases hq_7 with ⟨P_8, e_8, rfl, hH_8, hS_8⟩ | ⟨e_8, rfl, hE_8⟩
          · have sm_9 : MSm P_8 := mulS_sm (sR jv (by omega)) smR_8 e_8
            have hh_10 := hS_8.hold (k := jt) (by omega) (hR jt (by omega))
            have hh_11 := hS_8.hold (k := jv) (by omega) (hR jv (by omega))
            have hh_12 := hS_8.hold (k := ja) (by omega) (hR ja (by omega))
            refine lv_if_ne (tgt := 57) hx hb dX7_apply_48 (by decide) (fun c_48 => ?_) (fun c_48 => ?_)
            rotate_left
            · exact absurd c_48 (by decide)
            refine lv_aload_n hx hb dX7_apply_57 rfl (lv_at hl 0 rfl) ?_
            refine lv_bipush (v := nI 25) hx hb dX7_apply_58 (by decide) ?_
            refine s_i (va_runV (As := [.int (nI 25)]) (rest := []) ⟨hx, hb, hml, hown, hts⟩ (x7_isNumber Z o th p0 q0 r0 mu_5 zz fA_3 25 P_8 (by omega) hH_8) (cwV 1 hts (lw_V q2205 q2207 qs53 q107 q2208) rfl rfl rfl (by decide +kernel) ⟨Nat.le_of_ble_eq_true rfl, Nat.le_of_ble_eq_true rfl⟩) (gP_V (va_recv hK hP (ci := 2) (q0 := 0) rfl rfl) hG hS (fun q _ h => h.elim) (hP.sub (ws' := [(o 0, .inr (2, mFs o th p0 q0 r0 mu_5 zz)), (o 5, .inl (dA 1, 2640, .inr (.inl fA_3)))]) [0, 1] rfl)) rfl rfl hl.1 rfl (lv_room (Nat.le_of_ble_eq_true rfl)) dX7_apply_60 ⟨by first | decide | omega, by first | decide | omega⟩) ?_
            refine lv_if_ne (tgt := 72) hx hb dX7_apply_63 (by decide) (fun c_63 => ?_) (fun c_63 => ?_)
            · have hb_63 := bI_1 c_63
              refine lv_aload_n hx hb dX7_apply_72 rfl (lv_at hl 0 rfl) ?_
              refine lv_iload_n hx hb dX7_apply_73 rfl (lv_at hl 2 rfl) ?_
              refine lv_iload_n hx hb dX7_apply_74 rfl (lv_at hl 3 rfl) ?_
              refine lv_bipush (v := nI 28) hx hb dX7_apply_75 (by decide) ?_
              have hF9 := va_free (wc := [(o 0, .inr (2, mFs o th p0 q0 r0 mu_5 zz)), (o 5, .inl (dA 1, 2640, .inr (.inl fA_3))), (o 6, .inl (dA 1, 32, .inr (.inl fM_4)))]) hD hS (fun q h => hA q h) [0, 1, 2] rfl
              refine c_i (wr := []) (va_runV (As := [.int (nI jv), .int (nI ja), .int (nI 28)]) (rest := []) ⟨hx, hb, hml, hown, hts⟩ (x7_sandwiches Z (va_A [(o 0, .inr (2, mFs o th p0 q0 r0 mu_5 zz)), (o 5, .inl (dA 1, 2640, .inr (.inl fA_3))), (o 6, .inl (dA 1, 32, .inr (.inl fM_4)))] H.size) H.size (fun q h => Or.inr h) o th p0 q0 r0 mu_5 zz fA_3 fM_4 jv ja 28 (Ms jv) (Ms ja) (by omega) (by omega) (by omega) (by omega) (by omega) (by omega) (by omega) (by omega) (by omega) hh_11 hh_12 hR_8 (sR jv (by omega)) (sR ja (by omega))) (cwV 3 hts (lw_V q2277 q2279 qs60 q107 q2280) rfl rfl rfl (by decide +kernel) ⟨Nat.le_of_ble_eq_true rfl, Nat.le_of_ble_eq_true rfl⟩) (gP_V (va_recv hK hP (ci := 2) (q0 := 0) rfl rfl) hG hS (fun q _ h => hF9 q h) ⟨rfl, (hP.sub (ws' := [(o 0, .inr (2, mFs o th p0 q0 r0 mu_5 zz)), (o 5, .inl (dA 1, 2640, .inr (.inl fA_3))), (o 6, .inl (dA 1, 32, .inr (.inl fM_4)))]) [0, 1, 2] rfl), (hD.sub (ws' := [(o 0, .inr (2, mFs o th p0 q0 r0 mu_5 zz)), (o 5, .inl (dA 1, 2640, .inr (.inl fA_3))), (o 6, .inl (dA 1, 32, .inr (.inl fM_4)))]) [0, 1, 2] (by decide) rfl).self⟩) rfl rfl hl.1 rfl (lv_room (Nat.le_of_ble_eq_true rfl)) dX7_apply_77 ⟨by first | decide | omega, by first | decide | omega⟩) hP hD hS hA [0, 1, 2] [] rfl rfl (by decide) (by decide) (fun r9 u9 H locs hq hX hz hk hP hD hS => ?_)
              obtain ⟨fA_13, fM_14, mu_15⟩ := u9
              obtain ⟨r_16, rfl⟩ : ∃ z, z = r9 := ⟨_, rfl⟩
              have hq_17 := hq
              try dsimp only at hq_17
              have hP : va_P (dC, dI) vwCl [(o 0, .inr (2, mFs o th p0 q0 r0 mu_15 zz)), (o 5, .inl (dA 1, 2640, .inr (.inl fA_13))), (o 6, .inl (dA 1, 32, .inr (.inl fM_14)))] H := hP
              have hD : va_D A [(o 0, .inr (2, mFs o th p0 q0 r0 mu_15 zz)), (o 5, .inl (dA 1, 2640, .inr (.inl fA_13))), (o 6, .inl (dA 1, 32, .inr (.inl fM_14)))] := hD
              rcases hq_17 with ⟨P_18, e_18, rfl, hH_18, hS_18⟩ | ⟨e_18, rfl, hE_18⟩
              · have sm_19 : MSm P_18 := sndS_sm (by omega) (sR jv (by omega)) (sR ja (by omega)) e_18
                have hh_20 := hS_18.hold (k := jt) (by omega) hh_10
                have hh_21 := hS_18.hold (k := jv) (by omega) hh_11
                have hh_22 := hS_18.hold (k := ja) (by omega) hh_12
                have hh_23 := hS_18.hold (k := 25) (by omega) hH_8
                have hh_24 := hS_18.hold (k := 31) (by omega) hR_8
                refine lv_if_eq (tgt := 111) hx hb dX7_apply_80 (by decide) (fun c_80 => ?_) (fun c_80 => ?_)
                · exact absurd c_80 (by decide)
                refine lv_aload_n hx hb dX7_apply_83 rfl (lv_at hl 0 rfl) ?_
                refine lv_bipush (v := nI 28) hx hb dX7_apply_84 (by decide) ?_
                refine lv_aload_n hx hb dX7_apply_86 rfl (lv_at hl 0 rfl) ?_
                refine lv_bipush (v := nI 25) hx hb dX7_apply_87 (by decide) ?_
                refine s_l (va_runV (As := [.int (nI 25)]) (rest := [.int (nI 28), .ref (o 0)]) ⟨hx, hb, hml, hown, hts⟩ (x7_under Z o th p0 q0 r0 mu_15 zz fA_13 25 (by omega)) (cwV 1 hts (lw_V q2123 q2125 qs39 q107 q2126) rfl rfl rfl (by decide +kernel) ⟨Nat.le_of_ble_eq_true rfl, Nat.le_of_ble_eq_true rfl⟩) (gP_V (va_recv hK hP (ci := 2) (q0 := 0) rfl rfl) hG hS (fun q _ h => h.elim) (hP.sub (ws' := [(o 0, .inr (2, mFs o th p0 q0 r0 mu_15 zz)), (o 5, .inl (dA 1, 2640, .inr (.inl fA_13)))]) [0, 1] rfl)) rfl rfl hl.1 rfl (lv_room (Nat.le_of_ble_eq_true rfl)) dX7_apply_89 ⟨by first | decide | omega, by first | decide | omega⟩) ?_
                refine e_l (y := P_8 0) (hold_at hh_23 (i := 0) (by omega) (by omega)) ?_
                refine lv_aload_n hx hb dX7_apply_92 rfl (lv_at hl 0 rfl) ?_
                refine lv_bipush (v := nI 25) hx hb dX7_apply_93 (by decide) ?_
                refine lv_iconst (v := nI 0) hx hb dX7_apply_95 (by decide) ?_
                refine s_l (va_runV (As := [.int (nI 25), .int (nI 0)]) (rest := [.long (P_8 0), .int (nI 28), .ref (o 0)]) ⟨hx, hb, hml, hown, hts⟩ (x7_of Z o th p0 q0 r0 mu_15 zz fA_13 25 0 (by omega)) (cwV 2 hts (lw_V q2119 q2121 qs38 q107 q2122) rfl rfl rfl (by decide +kernel) ⟨Nat.le_of_ble_eq_true rfl, Nat.le_of_ble_eq_true rfl⟩) (gP_V (va_recv hK hP (ci := 2) (q0 := 0) rfl rfl) hG hS (fun q _ h => h.elim) (hP.sub (ws' := [(o 0, .inr (2, mFs o th p0 q0 r0 mu_15 zz)), (o 5, .inl (dA 1, 2640, .inr (.inl fA_13)))]) [0, 1] rfl)) rfl rfl hl.1 rfl (lv_room (Nat.le_of_ble_eq_true rfl)) dX7_apply_96 ⟨by first | decide | omega, by first | decide | omega⟩) ?_
                refine e_l (y := P_8 1) (hold_at hh_23 (i := 0 + 1) (by omega) (by omega)) ?_
                refine lv_bipush (v := nI 24) hx hb dX7_apply_99 (by decide) ?_
                have hF9 := va_free (wc := [(o 0, .inr (2, mFs o th p0 q0 r0 mu_15 zz)), (o 5, .inl (dA 1, 2640, .inr (.inl fA_13))), (o 6, .inl (dA 1, 32, .inr (.inl fM_14)))]) hD hS (fun q h => hA q h) [0, 1, 2] rfl
                refine c_i (wr := []) (va_runV (As := [.int (nI 28), .long (P_8 0), .long (P_8 1), .int (nI 24)]) (rest := []) ⟨hx, hb, hml, hown, hts⟩ (x7_scales Z (va_A [(o 0, .inr (2, mFs o th p0 q0 r0 mu_15 zz)), (o 5, .inl (dA 1, 2640, .inr (.inl fA_13))), (o 6, .inl (dA 1, 32, .inr (.inl fM_14)))] H.size) H.size (fun q h => Or.inr h) o th p0 q0 r0 mu_15 zz fA_13 fM_14 28 24 (P_8 0) (P_8 1) P_18 sm_9.u (sm_9.c (j := 0) (by decide)) (isNumB_1 hb_63) (by omega) (by omega) hH_18 sm_19) (cwV 4 hts (lw_V q2176 q2178 qs47 q107 q2179) rfl rfl rfl (by decide +kernel) ⟨Nat.le_of_ble_eq_true rfl, Nat.le_of_ble_eq_true rfl⟩) (gP_V (va_recv hK hP (ci := 2) (q0 := 0) rfl rfl) hG hS (fun q _ h => hF9 q h) ⟨rfl, (hP.sub (ws' := [(o 0, .inr (2, mFs o th p0 q0 r0 mu_15 zz)), (o 5, .inl (dA 1, 2640, .inr (.inl fA_13))), (o 6, .inl (dA 1, 32, .inr (.inl fM_14)))]) [0, 1, 2] rfl), (hD.sub (ws' := [(o 0, .inr (2, mFs o th p0 q0 r0 mu_15 zz)), (o 5, .inl (dA 1, 2640, .inr (.inl fA_13))), (o 6, .inl (dA 1, 32, .inr (.inl fM_14)))]) [0, 1, 2] (by decide) rfl).self⟩) rfl rfl hl.1 rfl (lv_room (Nat.le_of_ble_eq_true rfl)) dX7_apply_101 ⟨by first | decide | omega, by first | decide | omega⟩) hP hD hS hA [0, 1, 2] [] rfl rfl (by decide) (by decide) (fun r9 u9 H locs hq hX hz hk hP hD hS => ?_)
                obtain ⟨fA_25, fM_26, mu_27⟩ := u9
                obtain ⟨r_28, rfl⟩ : ∃ z, z = r9 := ⟨_, rfl⟩
                have hq_29 := hq
                try dsimp only at hq_29
                have hP : va_P (dC, dI) vwCl [(o 0, .inr (2, mFs o th p0 q0 r0 mu_27 zz)), (o 5, .inl (dA 1, 2640, .inr (.inl fA_25))), (o 6, .inl (dA 1, 32, .inr (.inl fM_26)))] H := hP
                have hD : va_D A [(o 0, .inr (2, mFs o th p0 q0 r0 mu_27 zz)), (o 5, .inl (dA 1, 2640, .inr (.inl fA_25))), (o 6, .inl (dA 1, 32, .inr (.inl fM_26)))] := hD
                rcases hq_29.cases with ⟨P_30, e_30, rfl, hH_30, hS_30⟩ | ⟨e_30, rfl, hE_30⟩
                · have sm_31 : MSm P_30 := scaS_sm (sm_9.c (j := 0) (by decide)) (isNumB_1 hb_63) sm_19 e_30
                  have hh_32 := hS_30.hold (j := jt) (by omega) hh_20
                  have hh_33 := hS_30.hold (j := jv) (by omega) hh_21
                  have hh_34 := hS_30.hold (j := ja) (by omega) hh_22
                  have hh_35 := hS_30.hold (j := 25) (by omega) hh_23
                  have hh_36 := hS_30.hold (j := 31) (by omega) hh_24
                  have hh_37 := hS_30.hold (j := 28) (by omega) hH_18
                  refine lv_if_eq (tgt := 111) hx hb dX7_apply_104 (by decide) (fun c_104 => ?_) (fun c_104 => ?_)
                  · exact absurd c_104 (by decide)
                  refine lv_iconst (v := nI 1) hx hb dX7_apply_107 (by decide) ?_
                  refine lv_goto (tgt := 112) hx hb dX7_apply_108 (by decide) ?_
                  refine lv_istore (lv' := [(4, .int (nI 1)), (0, .ref (o 0)), (1, .int (nI jt)), (2, .int (nI jv)), (3, .int (nI ja))]) hx hb dX7_apply_112 hl (by decide) rfl (fun ls hl => ?_)
                  refine lv_iload hx hb dX7_apply_114 (lv_at hl 0 rfl) ?_
                  refine lv_if_eq (tgt := 129) hx hb dX7_apply_116 (by decide) (fun c_116 => ?_) (fun c_116 => ?_)
                  · exact absurd c_116 (by decide)
                  refine lv_aload_n hx hb dX7_apply_119 rfl (lv_at hl 1 rfl) ?_
                  refine lv_bipush (v := nI 24) hx hb dX7_apply_120 (by decide) ?_
                  refine lv_iload_n hx hb dX7_apply_122 rfl (lv_at hl 2 rfl) ?_
                  have hF9 := va_free (wc := [(o 0, .inr (2, mFs o th p0 q0 r0 mu_27 zz)), (o 5, .inl (dA 1, 2640, .inr (.inl fA_25)))]) hD hS (fun q h => hA q h) [0, 1] rfl
                  refine c_i (wr := [(o 6, .inl (dA 1, 32, .inr (.inl fM_26)))]) (va_runV (As := [.int (nI 24), .int (nI jt)]) (rest := []) ⟨hx, hb, hml, hown, hts⟩ (x7_gives Z (va_A [(o 0, .inr (2, mFs o th p0 q0 r0 mu_27 zz)), (o 5, .inl (dA 1, 2640, .inr (.inl fA_25)))] H.size) H.size (fun q h => Or.inr h) o th p0 q0 r0 mu_27 zz fA_25 fM_26 24 jt (by omega) (by omega)) (cwV 2 hts (lw_V q2181 q2183 qs48 q107 q2184) rfl rfl rfl (by decide +kernel) ⟨Nat.le_of_ble_eq_true rfl, Nat.le_of_ble_eq_true rfl⟩) (gP_V (va_recv hK hP (ci := 2) (q0 := 0) rfl rfl) hG hS (fun q _ h => hF9 q h) ⟨rfl, (hP.sub (ws' := [(o 0, .inr (2, mFs o th p0 q0 r0 mu_27 zz)), (o 5, .inl (dA 1, 2640, .inr (.inl fA_25)))]) [0, 1] rfl), (hD.sub (ws' := [(o 0, .inr (2, mFs o th p0 q0 r0 mu_27 zz)), (o 5, .inl (dA 1, 2640, .inr (.inl fA_25)))]) [0, 1] (by decide) rfl).self⟩) rfl rfl hl.1 rfl (lv_room (Nat.le_of_ble_eq_true rfl)) dX7_apply_123 ⟨by first | decide | omega, by first | decide | omega⟩) hP hD hS hA [0, 1] [2] rfl rfl (by decide) (by decide) (fun r9 u9 H locs hq hX hz hk hP hD hS => ?_)
                  obtain ⟨r_38, rfl⟩ : ∃ z, z = r9 := ⟨_, rfl⟩
                  obtain rfl := hq
                  have hP : va_P (dC, dI) vwCl [(o 6, .inl (dA 1, 32, .inr (.inl fM_26))), (o 0, .inr (2, mFs o (nI 0) p0 q0 r0 mu_27 zz)), (o 5, .inl (dA 1, 2640, .inr (.inl (cpS fA_25 24 jt))))] H := hP
                  have hD : va_D A [(o 6, .inl (dA 1, 32, .inr (.inl fM_26))), (o 0, .inr (2, mFs o (nI 0) p0 q0 r0 mu_27 zz)), (o 5, .inl (dA 1, 2640, .inr (.inl (cpS fA_25 24 jt))))] := hD
                  have hc_40 := cpS_hold (t := jt) hH_30
                  have hs_41 := cpS_same (fA := fA_25) (k := 24) (t := jt)
                  generalize cpS fA_25 24 jt = fA_39 at hP hD hc_40 hs_41 ⊢
                  have hh_42 := hs_41.hold (j := 25) (by omega) hh_35
                  have hh_43 := hs_41.hold (j := 31) (by omega) hh_36
                  have hh_44 := hs_41.hold (j := 28) (by omega) hh_37
                  have hh_45 := hs_41.hold (j := 24) (by omega) hH_30
                  refine lv_goto (tgt := 134) hx hb dX7_apply_126 (by decide) ?_
                  subst hQe
                  exact W.iret (v := nI (cntN (fun j => fA_39 (33 * jt + 1 + j)) 32)) hx hb hr (fun t ht hW => ⟨⟨_, (fA_39, fM_26, mu_27, nI 0), rfl, (by rw [rg_n (show jt < 8 by omega)]; exact ModPost.mk1 (P := P_30) (by simp [appX, rgB, optC, h_t, h_v, h_a, hb_32, e_8, hb_63, e_18, e_30, rg_n (show jt < 8 by omega), rg_n (show jv < 8 by omega), rg_n (show ja < 8 by omega), nI_clamp (show jt < 2 ^ 31 by omega), nI_clamp (show jv < 2 ^ 31 by omega), nI_clamp (show ja < 2 ^ 31 by omega)]) hc_40 (fun k9 hk9 i9 hi9 => by (try dsimp only [outH] at hk9); show fA_39 (33 * k9 + i9) = fA (33 * k9 + i9); rw [hs_41 _ (by omega), hS_30 _ (by omega), hS_18 k9 (by omega) i9 hi9, hS_8 k9 (by omega) i9 hi9])), B1_at ht (hP.sub [1, 2, 0] rfl) (hD.sub [1, 2, 0] (by decide) rfl) trivial⟩, hS.F ht⟩) hS.2.2 dX7_apply_134
                · have hh_46 : Hold fA_25 jt (Ms jt) := by rw [hE_30]; exact hh_20
                  have hh_47 : Hold fA_25 jv (Ms jv) := by rw [hE_30]; exact hh_21
                  have hh_48 : Hold fA_25 ja (Ms ja) := by rw [hE_30]; exact hh_22
                  have hh_49 : Hold fA_25 25 P_8 := by rw [hE_30]; exact hh_23
                  have hh_50 : Hold fA_25 31 (revS p0 q0 r0 (Ms jv)) := by rw [hE_30]; exact hh_24
                  have hh_51 : Hold fA_25 28 P_18 := by rw [hE_30]; exact hH_18
                  refine lv_if_eq (tgt := 111) hx hb dX7_apply_104 (by decide) (fun c_104 => ?_) (fun c_104 => ?_)
                  rotate_left
                  · exact absurd (by decide) c_104
                  refine lv_iconst (v := nI 0) hx hb dX7_apply_111 (by decide) ?_
                  refine lv_istore (lv' := [(4, .int (nI 0)), (0, .ref (o 0)), (1, .int (nI jt)), (2, .int (nI jv)), (3, .int (nI ja))]) hx hb dX7_apply_112 hl (by decide) rfl (fun ls hl => ?_)
                  refine lv_iload hx hb dX7_apply_114 (lv_at hl 0 rfl) ?_
                  refine lv_if_eq (tgt := 129) hx hb dX7_apply_116 (by decide) (fun c_116 => ?_) (fun c_116 => ?_)
                  rotate_left
                  · exact absurd (by decide) c_116
                  refine lv_aload_n hx hb dX7_apply_129 rfl (lv_at hl 1 rfl) ?_
                  refine lv_iconst (v := nI 3) hx hb dX7_apply_130 (by decide) ?_
                  have hF9 := va_free (wc := [(o 0, .inr (2, mFs o th p0 q0 r0 mu_27 zz))]) hD hS (fun q h => hA q h) [0] rfl
                  refine c_i (wr := [(o 5, .inl (dA 1, 2640, .inr (.inl fA_25))), (o 6, .inl (dA 1, 32, .inr (.inl fM_26)))]) (va_runV (As := [.int (nI 3)]) (rest := []) ⟨hx, hb, hml, hown, hts⟩ (x7_refuses Z (va_A [(o 0, .inr (2, mFs o th p0 q0 r0 mu_27 zz))] H.size) H.size (fun q h => Or.inr h) o th p0 q0 r0 mu_27 zz (nI 3)) (cwV 1 hts (lw_V q2100 q2102 qs34 q107 q2103) rfl rfl rfl (by decide +kernel) ⟨Nat.le_of_ble_eq_true rfl, Nat.le_of_ble_eq_true rfl⟩) (gP_V (va_recv hK hP (ci := 2) (q0 := 0) rfl rfl) hG hS (fun q _ h => hF9 q h) ⟨rfl, (hP.sub (ws' := [(o 0, .inr (2, mFs o th p0 q0 r0 mu_27 zz))]) [0] rfl), (hD.sub (ws' := [(o 0, .inr (2, mFs o th p0 q0 r0 mu_27 zz))]) [0] (by decide) rfl).self⟩) rfl rfl hl.1 rfl (lv_room (Nat.le_of_ble_eq_true rfl)) dX7_apply_131 ⟨by first | decide | omega, by first | decide | omega⟩) hP hD hS hA [0] [1, 2] rfl rfl (by decide) (by decide) (fun r9 u9 H locs hq hX hz hk hP hD hS => ?_)
                  obtain ⟨r_52, rfl⟩ : ∃ z, z = r9 := ⟨_, rfl⟩
                  obtain rfl := hq
                  have hP : va_P (dC, dI) vwCl [(o 5, .inl (dA 1, 2640, .inr (.inl fA_25))), (o 6, .inl (dA 1, 32, .inr (.inl fM_26))), (o 0, .inr (2, mFs o (nI 3) p0 q0 r0 mu_27 zz))] H := hP
                  have hD : va_D A [(o 5, .inl (dA 1, 2640, .inr (.inl fA_25))), (o 6, .inl (dA 1, 32, .inr (.inl fM_26))), (o 0, .inr (2, mFs o (nI 3) p0 q0 r0 mu_27 zz))] := hD
                  subst hQe
                  exact W.iret (v := nI 0) hx hb hr (fun t ht hW => ⟨⟨_, (fA_25, fM_26, mu_27, nI 3), rfl, ModPost.mk0 (c := nI 3) (by simp [appX, rgB, optC, h_t, h_v, h_a, hb_32, e_8, hb_63, e_18, e_30, rg_n (show jt < 8 by omega), rg_n (show jv < 8 by omega), rg_n (show ja < 8 by omega), nI_clamp (show jt < 2 ^ 31 by omega), nI_clamp (show jv < 2 ^ 31 by omega), nI_clamp (show ja < 2 ^ 31 by omega)]) (fun k9 hk9 i9 hi9 => by (try dsimp only [outH] at hk9); show fA_25 (33 * k9 + i9) = fA (33 * k9 + i9); rw [hE_30, hS_18 k9 (by omega) i9 hi9, hS_8 k9 (by omega) i9 hi9]), B1_at ht (hP.sub [2, 0, 1] rfl) (hD.sub [2, 0, 1] (by decide) rfl) trivial⟩, hS.F ht⟩) hS.2.2 dX7_apply_134
              · have hh_53 := hE_18.hold (k := jt) (by omega) hh_10
                have hh_54 := hE_18.hold (k := jv) (by omega) hh_11
                have hh_55 := hE_18.hold (k := ja) (by omega) hh_12
                have hh_56 := hE_18.hold (k := 25) (by omega) hH_8
                have hh_57 := hE_18.hold (k := 31) (by omega) hR_8
                refine lv_if_eq (tgt := 111) hx hb dX7_apply_80 (by decide) (fun c_80 => ?_) (fun c_80 => ?_)
                rotate_left
                · exact absurd (by decide) c_80
                refine lv_iconst (v := nI 0) hx hb dX7_apply_111 (by decide) ?_
                refine lv_istore (lv' := [(4, .int (nI 0)), (0, .ref (o 0)), (1, .int (nI jt)), (2, .int (nI jv)), (3, .int (nI ja))]) hx hb dX7_apply_112 hl (by decide) rfl (fun ls hl => ?_)
                refine lv_iload hx hb dX7_apply_114 (lv_at hl 0 rfl) ?_
                refine lv_if_eq (tgt := 129) hx hb dX7_apply_116 (by decide) (fun c_116 => ?_) (fun c_116 => ?_)
                rotate_left
                · exact absurd (by decide) c_116
                refine lv_aload_n hx hb dX7_apply_129 rfl (lv_at hl 1 rfl) ?_
                refine lv_iconst (v := nI 3) hx hb dX7_apply_130 (by decide) ?_
                have hF9 := va_free (wc := [(o 0, .inr (2, mFs o th p0 q0 r0 mu_15 zz))]) hD hS (fun q h => hA q h) [0] rfl
                refine c_i (wr := [(o 5, .inl (dA 1, 2640, .inr (.inl fA_13))), (o 6, .inl (dA 1, 32, .inr (.inl fM_14)))]) (va_runV (As := [.int (nI 3)]) (rest := []) ⟨hx, hb, hml, hown, hts⟩ (x7_refuses Z (va_A [(o 0, .inr (2, mFs o th p0 q0 r0 mu_15 zz))] H.size) H.size (fun q h => Or.inr h) o th p0 q0 r0 mu_15 zz (nI 3)) (cwV 1 hts (lw_V q2100 q2102 qs34 q107 q2103) rfl rfl rfl (by decide +kernel) ⟨Nat.le_of_ble_eq_true rfl, Nat.le_of_ble_eq_true rfl⟩) (gP_V (va_recv hK hP (ci := 2) (q0 := 0) rfl rfl) hG hS (fun q _ h => hF9 q h) ⟨rfl, (hP.sub (ws' := [(o 0, .inr (2, mFs o th p0 q0 r0 mu_15 zz))]) [0] rfl), (hD.sub (ws' := [(o 0, .inr (2, mFs o th p0 q0 r0 mu_15 zz))]) [0] (by decide) rfl).self⟩) rfl rfl hl.1 rfl (lv_room (Nat.le_of_ble_eq_true rfl)) dX7_apply_131 ⟨by first | decide | omega, by first | decide | omega⟩) hP hD hS hA [0] [1, 2] rfl rfl (by decide) (by decide) (fun r9 u9 H locs hq hX hz hk hP hD hS => ?_)
                obtain ⟨r_58, rfl⟩ : ∃ z, z = r9 := ⟨_, rfl⟩
                obtain rfl := hq
                have hP : va_P (dC, dI) vwCl [(o 5, .inl (dA 1, 2640, .inr (.inl fA_13))), (o 6, .inl (dA 1, 32, .inr (.inl fM_14))), (o 0, .inr (2, mFs o (nI 3) p0 q0 r0 mu_15 zz))] H := hP
                have hD : va_D A [(o 5, .inl (dA 1, 2640, .inr (.inl fA_13))), (o 6, .inl (dA 1, 32, .inr (.inl fM_14))), (o 0, .inr (2, mFs o (nI 3) p0 q0 r0 mu_15 zz))] := hD
                subst hQe
                exact W.iret (v := nI 0) hx hb hr (fun t ht hW => ⟨⟨_, (fA_13, fM_14, mu_15, nI 3), rfl, ModPost.mk0 (c := nI 3) (by simp [appX, rgB, optC, h_t, h_v, h_a, hb_32, e_8, hb_63, e_18, rg_n (show jt < 8 by omega), rg_n (show jv < 8 by omega), rg_n (show ja < 8 by omega), nI_clamp (show jt < 2 ^ 31 by omega), nI_clamp (show jv < 2 ^ 31 by omega), nI_clamp (show ja < 2 ^ 31 by omega)]) (fun k9 hk9 i9 hi9 => by (try dsimp only [outH] at hk9); show fA_13 (33 * k9 + i9) = fA (33 * k9 + i9); rw [hE_18 k9 (by omega) i9 hi9, hS_8 k9 (by omega) i9 hi9]), B1_at ht (hP.sub [2, 0, 1] rfl) (hD.sub [2, 0, 1] (by decide) rfl) trivial⟩, hS.F ht⟩) hS.2.2 dX7_apply_134
            · have hb_63 := bI_0 c_63
              refine lv_aload_n hx hb dX7_apply_66 rfl (lv_at hl 0 rfl) ?_
              refine lv_iconst (v := nI 4) hx hb dX7_apply_67 (by decide) ?_
              have hF9 := va_free (wc := [(o 0, .inr (2, mFs o th p0 q0 r0 mu_5 zz))]) hD hS (fun q h => hA q h) [0] rfl
              refine c_i (wr := [(o 5, .inl (dA 1, 2640, .inr (.inl fA_3))), (o 6, .inl (dA 1, 32, .inr (.inl fM_4)))]) (va_runV (As := [.int (nI 4)]) (rest := []) ⟨hx, hb, hml, hown, hts⟩ (x7_refuses Z (va_A [(o 0, .inr (2, mFs o th p0 q0 r0 mu_5 zz))] H.size) H.size (fun q h => Or.inr h) o th p0 q0 r0 mu_5 zz (nI 4)) (cwV 1 hts (lw_V q2100 q2102 qs34 q107 q2103) rfl rfl rfl (by decide +kernel) ⟨Nat.le_of_ble_eq_true rfl, Nat.le_of_ble_eq_true rfl⟩) (gP_V (va_recv hK hP (ci := 2) (q0 := 0) rfl rfl) hG hS (fun q _ h => hF9 q h) ⟨rfl, (hP.sub (ws' := [(o 0, .inr (2, mFs o th p0 q0 r0 mu_5 zz))]) [0] rfl), (hD.sub (ws' := [(o 0, .inr (2, mFs o th p0 q0 r0 mu_5 zz))]) [0] (by decide) rfl).self⟩) rfl rfl hl.1 rfl (lv_room (Nat.le_of_ble_eq_true rfl)) dX7_apply_68 ⟨by first | decide | omega, by first | decide | omega⟩) hP hD hS hA [0] [1, 2] rfl rfl (by decide) (by decide) (fun r9 u9 H locs hq hX hz hk hP hD hS => ?_)
              obtain ⟨r_59, rfl⟩ : ∃ z, z = r9 := ⟨_, rfl⟩
              obtain rfl := hq
              have hP : va_P (dC, dI) vwCl [(o 5, .inl (dA 1, 2640, .inr (.inl fA_3))), (o 6, .inl (dA 1, 32, .inr (.inl fM_4))), (o 0, .inr (2, mFs o (nI 4) p0 q0 r0 mu_5 zz))] H := hP
              have hD : va_D A [(o 5, .inl (dA 1, 2640, .inr (.inl fA_3))), (o 6, .inl (dA 1, 32, .inr (.inl fM_4))), (o 0, .inr (2, mFs o (nI 4) p0 q0 r0 mu_5 zz))] := hD
              subst hQe
              exact W.iret (v := nI 0) hx hb hr (fun t ht hW => ⟨⟨_, (fA_3, fM_4, mu_5, nI 4), rfl, ModPost.mk0 (c := nI 4) (by simp [appX, rgB, optC, h_t, h_v, h_a, hb_32, e_8, hb_63, rg_n (show jt < 8 by omega), rg_n (show jv < 8 by omega), rg_n (show ja < 8 by omega), nI_clamp (show jt < 2 ^ 31 by omega), nI_clamp (show jv < 2 ^ 31 by omega), nI_clamp (show ja < 2 ^ 31 by omega)]) (fun k9 hk9 i9 hi9 => by (try dsimp only [outH] at hk9); show fA_3 (33 * k9 + i9) = fA (33 * k9 + i9); rw [hS_8 k9 (by omega) i9 hi9]), B1_at ht (hP.sub [2, 0, 1] rfl) (hD.sub [2, 0, 1] (by decide) rfl) trivial⟩, hS.F ht⟩) hS.2.2 dX7_apply_71
          · have hh_60 := hE_8.hold (k := jt) (by omega) (hR jt (by omega))
            have hh_61 := hE_8.hold (k := jv) (by omega) (hR jv (by omega))
            have hh_62 := hE_8.hold (k := ja) (by omega) (hR ja (by omega))
            refine lv_if_ne (tgt := 57) hx hb dX7_apply_48 (by decide) (fun c_48 => ?_) (fun c_48 => ?_)
            · exact absurd (by decide) c_48
            refine lv_aload_n hx hb dX7_apply_51 rfl (lv_at hl 0 rfl) ?_
            refine lv_iconst (v := nI 3) hx hb dX7_apply_52 (by decide) ?_
            have hF9 := va_free (wc := [(o 0, .inr (2, mFs o th p0 q0 r0 mu_5 zz))]) hD hS (fun q h => hA q h) [0] rfl
            refine c_i (wr := [(o 5, .inl (dA 1, 2640, .inr (.inl fA_3))), (o 6, .inl (dA 1, 32, .inr (.inl fM_4)))]) (va_runV (As := [.int (nI 3)]) (rest := []) ⟨hx, hb, hml, hown, hts⟩ (x7_refuses Z (va_A [(o 0, .inr (2, mFs o th p0 q0 r0 mu_5 zz))] H.size) H.size (fun q h => Or.inr h) o th p0 q0 r0 mu_5 zz (nI 3)) (cwV 1 hts (lw_V q2100 q2102 qs34 q107 q2103) rfl rfl rfl (by decide +kernel) ⟨Nat.le_of_ble_eq_true rfl, Nat.le_of_ble_eq_true rfl⟩) (gP_V (va_recv hK hP (ci := 2) (q0 := 0) rfl rfl) hG hS (fun q _ h => hF9 q h) ⟨rfl, (hP.sub (ws' := [(o 0, .inr (2, mFs o th p0 q0 r0 mu_5 zz))]) [0] rfl), (hD.sub (ws' := [(o 0, .inr (2, mFs o th p0 q0 r0 mu_5 zz))]) [0] (by decide) rfl).self⟩) rfl rfl hl.1 rfl (lv_room (Nat.le_of_ble_eq_true rfl)) dX7_apply_53 ⟨by first | decide | omega, by first | decide | omega⟩) hP hD hS hA [0] [1, 2] rfl rfl (by decide) (by decide) (fun r9 u9 H locs hq hX hz hk hP hD hS => ?_)
            obtain ⟨r_63, rfl⟩ : ∃ z, z = r9 := ⟨_, rfl⟩
            obtain rfl := hq
            have hP : va_P (dC, dI) vwCl [(o 5, .inl (dA 1, 2640, .inr (.inl fA_3))), (o 6, .inl (dA 1, 32, .inr (.inl fM_4))), (o 0, .inr (2, mFs o (nI 3) p0 q0 r0 mu_5 zz))] H := hP
            have hD : va_D A [(o 5, .inl (dA 1, 2640, .inr (.inl fA_3))), (o 6, .inl (dA 1, 32, .inr (.inl fM_4))), (o 0, .inr (2, mFs o (nI 3) p0 q0 r0 mu_5 zz))] := hD
            subst hQe
            exact W.iret (v := nI 0) hx hb hr (fun t ht hW => ⟨⟨_, (fA_3, fM_4, mu_5, nI 3), rfl, ModPost.mk0 (c := nI 3) (by simp [appX, rgB, optC, h_t, h_v, h_a, hb_32, e_8, rg_n (show jt < 8 by omega), rg_n (show jv < 8 by omega), rg_n (show ja < 8 by omega), nI_clamp (show jt < 2 ^ 31 by omega), nI_clamp (show jv < 2 ^ 31 by omega), nI_clamp (show ja < 2 ^ 31 by omega)]) (fun k9 hk9 i9 hi9 => by (try dsimp only [outH] at hk9); show fA_3 (33 * k9 + i9) = fA (33 * k9 + i9); rw [hE_8 k9 (by omega) i9 hi9]), B1_at ht (hP.sub [2, 0, 1] rfl) (hD.sub [2, 0, 1] (by decide) rfl) trivial⟩, hS.F ht⟩) hS.2.2 dX7_apply_56
        · have hb_32 := bI_1 c_32
          refine lv_aload_n hx hb dX7_apply_35 rfl (lv_at hl 0 rfl) ?_
          refine lv_iconst (v := nI 2) hx hb dX7_apply_36 (by decide) ?_
          have hF9 := va_free (wc := [(o 0, .inr (2, mFs o th p0 q0 r0 mu zz))]) hD hS (fun q h => hA q h) [0] rfl
          refine c_i (wr := [(o 5, .inl (dA 1, 2640, .inr (.inl fA))), (o 6, .inl (dA 1, 32, .inr (.inl fM)))]) (va_runV (As := [.int (nI 2)]) (rest := []) ⟨hx, hb, hml, hown, hts⟩ (x7_refuses Z (va_A [(o 0, .inr (2, mFs o th p0 q0 r0 mu zz))] s.heap.size) s.heap.size (fun q h => Or.inr h) o th p0 q0 r0 mu zz (nI 2)) (cwV 1 hts (lw_V q2100 q2102 qs34 q107 q2103) rfl rfl rfl (by decide +kernel) ⟨Nat.le_of_ble_eq_true rfl, Nat.le_of_ble_eq_true rfl⟩) (gP_V (va_recv hK hP (ci := 2) (q0 := 0) rfl rfl) hG hS (fun q _ h => hF9 q h) ⟨rfl, (hP.sub (ws' := [(o 0, .inr (2, mFs o th p0 q0 r0 mu zz))]) [0] rfl), (hD.sub (ws' := [(o 0, .inr (2, mFs o th p0 q0 r0 mu zz))]) [0] (by decide) rfl).self⟩) rfl rfl hl.1 rfl (lv_room (Nat.le_of_ble_eq_true rfl)) dX7_apply_37 ⟨by first | decide | omega, by first | decide | omega⟩) hP hD hS hA [0] [1, 2] rfl rfl (by decide) (by decide) (fun r9 u9 H locs hq hX hz hk hP hD hS => ?_)
          obtain ⟨r_64, rfl⟩ : ∃ z, z = r9 := ⟨_, rfl⟩
          obtain rfl := hq
          have hP : va_P (dC, dI) vwCl [(o 5, .inl (dA 1, 2640, .inr (.inl fA))), (o 6, .inl (dA 1, 32, .inr (.inl fM))), (o 0, .inr (2, mFs o (nI 2) p0 q0 r0 mu zz))] H := hP
          have hD : va_D A [(o 5, .inl (dA 1, 2640, .inr (.inl fA))), (o 6, .inl (dA 1, 32, .inr (.inl fM))), (o 0, .inr (2, mFs o (nI 2) p0 q0 r0 mu zz))] := hD
          subst hQe
          exact W.iret (v := nI 0) hx hb hr (fun t ht hW => ⟨⟨_, (fA, fM, mu, nI 2), rfl, ModPost.mk0 (c := nI 2) (by simp [appX, rgB, optC, h_t, h_v, h_a, hb_32, rg_n (show jt < 8 by omega), rg_n (show jv < 8 by omega), rg_n (show ja < 8 by omega), nI_clamp (show jt < 2 ^ 31 by omega), nI_clamp (show jv < 2 ^ 31 by omega), nI_clamp (show ja < 2 ^ 31 by omega)]) (fun k9 hk9 i9 hi9 => rfl), B1_at ht (hP.sub [2, 0, 1] rfl) (hD.sub [2, 0, 1] (by decide) rfl) trivial⟩, hS.F ht⟩) hS.2.2 dX7_apply_40
      · have h_a := bI_0 c_18
        refine lv_aload_n hx hb dX7_apply_21 rfl (lv_at hl 0 rfl) ?_
        refine lv_iconst (v := nI 1) hx hb dX7_apply_22 (by decide) ?_
        have hF9 := va_free (wc := [(o 0, .inr (2, mFs o th p0 q0 r0 mu zz))]) hD hS (fun q h => hA q h) [0] rfl
        refine c_i (wr := [(o 5, .inl (dA 1, 2640, .inr (.inl fA))), (o 6, .inl (dA 1, 32, .inr (.inl fM)))]) (va_runV (As := [.int (nI 1)]) (rest := []) ⟨hx, hb, hml, hown, hts⟩ (x7_refuses Z (va_A [(o 0, .inr (2, mFs o th p0 q0 r0 mu zz))] s.heap.size) s.heap.size (fun q h => Or.inr h) o th p0 q0 r0 mu zz (nI 1)) (cwV 1 hts (lw_V q2100 q2102 qs34 q107 q2103) rfl rfl rfl (by decide +kernel) ⟨Nat.le_of_ble_eq_true rfl, Nat.le_of_ble_eq_true rfl⟩) (gP_V (va_recv hK hP (ci := 2) (q0 := 0) rfl rfl) hG hS (fun q _ h => hF9 q h) ⟨rfl, (hP.sub (ws' := [(o 0, .inr (2, mFs o th p0 q0 r0 mu zz))]) [0] rfl), (hD.sub (ws' := [(o 0, .inr (2, mFs o th p0 q0 r0 mu zz))]) [0] (by decide) rfl).self⟩) rfl rfl hl.1 rfl (lv_room (Nat.le_of_ble_eq_true rfl)) dX7_apply_23 ⟨by first | decide | omega, by first | decide | omega⟩) hP hD hS hA [0] [1, 2] rfl rfl (by decide) (by decide) (fun r9 u9 H locs hq hX hz hk hP hD hS => ?_)
        obtain ⟨r_65, rfl⟩ : ∃ z, z = r9 := ⟨_, rfl⟩
        obtain rfl := hq
        have hP : va_P (dC, dI) vwCl [(o 5, .inl (dA 1, 2640, .inr (.inl fA))), (o 6, .inl (dA 1, 32, .inr (.inl fM))), (o 0, .inr (2, mFs o (nI 1) p0 q0 r0 mu zz))] H := hP
        have hD : va_D A [(o 5, .inl (dA 1, 2640, .inr (.inl fA))), (o 6, .inl (dA 1, 32, .inr (.inl fM))), (o 0, .inr (2, mFs o (nI 1) p0 q0 r0 mu zz))] := hD
        subst hQe
        exact W.iret (v := nI 0) hx hb hr (fun t ht hW => ⟨⟨_, (fA, fM, mu, nI 1), rfl, ModPost.mk0 (c := nI 1) (by simp [appX, rgB, optC, h_t, h_v, h_a, rg_n (show jt < 8 by omega), rg_n (show jv < 8 by omega), nI_clamp (show jt < 2 ^ 31 by omega), nI_clamp (show jv < 2 ^ 31 by omega)]) (fun k9 hk9 i9 hi9 => rfl), B1_at ht (hP.sub [2, 0, 1] rfl) (hD.sub [2, 0, 1] (by decide) rfl) trivial⟩, hS.F ht⟩) hS.2.2 dX7_apply_26
set_option maxHeartbeats 4000000 in
theorem x7_rotor {l : Launch} {dC : Nat → ClassId} {dI : Nat → Nat → Nat} {dA : Nat → ClassId} {s0 : State} {b0 : Addr} (Z : Z0 l dC dI dA s0 b0) (A : Nat → Prop) (sz : Nat) (hA : ∀ q : Nat, sz ≤ q → A q) (o : Nat → Nat) (th : Int32) (p0 q0 r0 : Nat) (mu : Int64) (zz : Nat → Int32) (fA fM : Nat → Int64) (Ms : Nat → MV) (t : Int32) (a : Int32) (b : Int32) (hn : p0 + q0 + r0 ≤ 5) (hR : ∀ k, k < 8 → Hold fA k (Ms k)) (sR : ∀ k, k < 8 → MSm (Ms k)) : Met l yX7_rotor (ws_ yX7_rotor cX7_rotor 4 (some .int)) ({ frames := 8, cells := 0, slots := 0, locals := 480 } : Room) (gP [.ref (o 0), .int t, .int a, .int b] s0 A (fun H => H.size = sz ∧ va_P (dC, dI) vwCl [(o 0, .inr (2, mFs o th p0 q0 r0 mu zz)), (o 5, .inl (dA 1, 2640, .inr (.inl fA))), (o 6, .inl (dA 1, 32, .inr (.inl fM)))] H ∧ va_D A [(o 0, .inr (2, mFs o th p0 q0 r0 mu zz)), (o 5, .inl (dA 1, 2640, .inr (.inl fA))), (o 6, .inl (dA 1, 32, .inr (.inl fM)))])) (va_Qi (S := (Nat → Int64) × (Nat → Int64) × Int64 × Int32) (fun r u => ModPost fA (rg t) (rotX p0 q0 r0 Ms t a b) u.2.2.2 r u.1) (B1 (dC, dI) A (fun u => mC dA o u.2.2.2 p0 q0 r0 u.2.2.1 zz u.1 u.2.1) (fun _ _ => True)) A) 0 0 A := by
  refine Met.ofW (cc := cX7_rotor) (maxL := 4) (ret := (some .int)) (by decide) rfl ?_
  intro p e s m args below meth c s₁ B hml hv
  obtain ⟨hav, hG, hsz, hP, hD⟩ := hv
  have hx := B.exec
  have hb := B.bytes
  have hr := B.returns
  have hts := atoms_spec (ws := (ws_ yX7_rotor cX7_rotor 4 (some .int))) B.pre
  have hts : ∀ w ∈ lw_all, w.before _ s = true := fun w h => hts w (List.mem_cons_of_mem _ h)
  have hown : s.vm.findClass RX7 = some m.cls := findClass_of_methodNamed B.named
  have hlocks := B.notSynchronized
  have hK := hG.K Z
  subst hsz
  have hS : va_S A s.heap s.heap [] := va_S.rf
  have hl := lv_entry ([.ref (o 0), .int t, .int a, .int b]) (n := 4) (Nat.le_of_ble_eq_true rfl)
  rw [show entryFrame m args 4 = entryFrame m ([.ref (o 0), .int t, .int a, .int b] : List Value).toArray 4 from by rw [hav], lg_entry_eq]
  generalize (lg_sl ([.ref (o 0), .int t, .int a, .int b]) ++ List.replicate (4 - (lg_sl ([.ref (o 0), .int t, .int a, .int b])).length) Slot.unset).toArray = ls at hl ⊢
  have hl : lv_has ls 4 [(0, .ref (o 0)), (1, .int t), (2, .int a), (3, .int b)] := hl
  generalize hQe : MQ below _ _ s _ _ _ = Q
  change W p l e ({ frames := 8, cells := 0, slots := 0, locals := 480 } : Room) s m args below meth c s.heap [] 0 0 Q (F0 m 0 ls [])
  refine lv_iload_n hx hb dX7_rotor_0 rfl (lv_at hl 1 rfl) ?_
  refine s_i (va_runS (As := [.int t]) (rest := []) ⟨hx, hb, hml, hown, hts⟩ (x7_isRegister Z t) (va_cwS 1 hts (lw_S q2104 q2105 q107 q2106) rfl rfl rfl (by decide +kernel) ⟨Nat.le_of_ble_eq_true rfl, Nat.le_of_ble_eq_true rfl⟩) (gP_S hG hS (fun q _ h => h.elim) trivial) rfl rfl hl.1 rfl (lv_room (Nat.le_of_ble_eq_true rfl)) dX7_rotor_1 ⟨by first | decide | omega, by first | decide | omega⟩) ?_
  refine lv_if_eq (tgt := 21) hx hb dX7_rotor_4 (by decide) (fun c_4 => ?_) (fun c_4 => ?_)
  · have h_t := bI_0 c_4
    refine lv_aload_n hx hb dX7_rotor_21 rfl (lv_at hl 0 rfl) ?_
    refine lv_iconst (v := nI 1) hx hb dX7_rotor_22 (by decide) ?_
    have hF9 := va_free (wc := [(o 0, .inr (2, mFs o th p0 q0 r0 mu zz))]) hD hS (fun q h => hA q h) [0] rfl
    refine c_i (wr := [(o 5, .inl (dA 1, 2640, .inr (.inl fA))), (o 6, .inl (dA 1, 32, .inr (.inl fM)))]) (va_runV (As := [.int (nI 1)]) (rest := []) ⟨hx, hb, hml, hown, hts⟩ (x7_refuses Z (va_A [(o 0, .inr (2, mFs o th p0 q0 r0 mu zz))] s.heap.size) s.heap.size (fun q h => Or.inr h) o th p0 q0 r0 mu zz (nI 1)) (cwV 1 hts (lw_V q2100 q2102 qs34 q107 q2103) rfl rfl rfl (by decide +kernel) ⟨Nat.le_of_ble_eq_true rfl, Nat.le_of_ble_eq_true rfl⟩) (gP_V (va_recv hK hP (ci := 2) (q0 := 0) rfl rfl) hG hS (fun q _ h => hF9 q h) ⟨rfl, (hP.sub (ws' := [(o 0, .inr (2, mFs o th p0 q0 r0 mu zz))]) [0] rfl), (hD.sub (ws' := [(o 0, .inr (2, mFs o th p0 q0 r0 mu zz))]) [0] (by decide) rfl).self⟩) rfl rfl hl.1 rfl (lv_room (Nat.le_of_ble_eq_true rfl)) dX7_rotor_23 ⟨by first | decide | omega, by first | decide | omega⟩) hP hD hS hA [0] [1, 2] rfl rfl (by decide) (by decide) (fun r9 u9 H locs hq hX hz hk hP hD hS => ?_)
    obtain ⟨r_1, rfl⟩ : ∃ z, z = r9 := ⟨_, rfl⟩
    obtain rfl := hq
    have hP : va_P (dC, dI) vwCl [(o 5, .inl (dA 1, 2640, .inr (.inl fA))), (o 6, .inl (dA 1, 32, .inr (.inl fM))), (o 0, .inr (2, mFs o (nI 1) p0 q0 r0 mu zz))] H := hP
    have hD : va_D A [(o 5, .inl (dA 1, 2640, .inr (.inl fA))), (o 6, .inl (dA 1, 32, .inr (.inl fM))), (o 0, .inr (2, mFs o (nI 1) p0 q0 r0 mu zz))] := hD
    subst hQe
    exact W.iret (v := nI 0) hx hb hr (fun t ht hW => ⟨⟨_, (fA, fM, mu, nI 1), rfl, ModPost.mk0 (c := nI 1) (by simp [rotX, rgB, optC, h_t]) (fun k9 hk9 i9 hi9 => rfl), B1_at ht (hP.sub [2, 0, 1] rfl) (hD.sub [2, 0, 1] (by decide) rfl) trivial⟩, hS.F ht⟩) hS.2.2 dX7_rotor_26
  · have h_t := bI_1 c_4
    obtain ⟨jt, hj_t, rfl⟩ := inB_nat (by decide) h_t
    refine lv_iload_n hx hb dX7_rotor_7 rfl (lv_at hl 2 rfl) ?_
    refine s_i (va_runS (As := [.int a]) (rest := []) ⟨hx, hb, hml, hown, hts⟩ (x7_isRegister Z a) (va_cwS 1 hts (lw_S q2104 q2105 q107 q2106) rfl rfl rfl (by decide +kernel) ⟨Nat.le_of_ble_eq_true rfl, Nat.le_of_ble_eq_true rfl⟩) (gP_S hG hS (fun q _ h => h.elim) trivial) rfl rfl hl.1 rfl (lv_room (Nat.le_of_ble_eq_true rfl)) dX7_rotor_8 ⟨by first | decide | omega, by first | decide | omega⟩) ?_
    refine lv_if_eq (tgt := 21) hx hb dX7_rotor_11 (by decide) (fun c_11 => ?_) (fun c_11 => ?_)
    · have h_a := bI_0 c_11
      refine lv_aload_n hx hb dX7_rotor_21 rfl (lv_at hl 0 rfl) ?_
      refine lv_iconst (v := nI 1) hx hb dX7_rotor_22 (by decide) ?_
      have hF9 := va_free (wc := [(o 0, .inr (2, mFs o th p0 q0 r0 mu zz))]) hD hS (fun q h => hA q h) [0] rfl
      refine c_i (wr := [(o 5, .inl (dA 1, 2640, .inr (.inl fA))), (o 6, .inl (dA 1, 32, .inr (.inl fM)))]) (va_runV (As := [.int (nI 1)]) (rest := []) ⟨hx, hb, hml, hown, hts⟩ (x7_refuses Z (va_A [(o 0, .inr (2, mFs o th p0 q0 r0 mu zz))] s.heap.size) s.heap.size (fun q h => Or.inr h) o th p0 q0 r0 mu zz (nI 1)) (cwV 1 hts (lw_V q2100 q2102 qs34 q107 q2103) rfl rfl rfl (by decide +kernel) ⟨Nat.le_of_ble_eq_true rfl, Nat.le_of_ble_eq_true rfl⟩) (gP_V (va_recv hK hP (ci := 2) (q0 := 0) rfl rfl) hG hS (fun q _ h => hF9 q h) ⟨rfl, (hP.sub (ws' := [(o 0, .inr (2, mFs o th p0 q0 r0 mu zz))]) [0] rfl), (hD.sub (ws' := [(o 0, .inr (2, mFs o th p0 q0 r0 mu zz))]) [0] (by decide) rfl).self⟩) rfl rfl hl.1 rfl (lv_room (Nat.le_of_ble_eq_true rfl)) dX7_rotor_23 ⟨by first | decide | omega, by first | decide | omega⟩) hP hD hS hA [0] [1, 2] rfl rfl (by decide) (by decide) (fun r9 u9 H locs hq hX hz hk hP hD hS => ?_)
      obtain ⟨r_2, rfl⟩ : ∃ z, z = r9 := ⟨_, rfl⟩
      obtain rfl := hq
      have hP : va_P (dC, dI) vwCl [(o 5, .inl (dA 1, 2640, .inr (.inl fA))), (o 6, .inl (dA 1, 32, .inr (.inl fM))), (o 0, .inr (2, mFs o (nI 1) p0 q0 r0 mu zz))] H := hP
      have hD : va_D A [(o 5, .inl (dA 1, 2640, .inr (.inl fA))), (o 6, .inl (dA 1, 32, .inr (.inl fM))), (o 0, .inr (2, mFs o (nI 1) p0 q0 r0 mu zz))] := hD
      subst hQe
      exact W.iret (v := nI 0) hx hb hr (fun t ht hW => ⟨⟨_, (fA, fM, mu, nI 1), rfl, ModPost.mk0 (c := nI 1) (by simp [rotX, rgB, optC, h_t, h_a, rg_n (show jt < 8 by omega), nI_clamp (show jt < 2 ^ 31 by omega)]) (fun k9 hk9 i9 hi9 => rfl), B1_at ht (hP.sub [2, 0, 1] rfl) (hD.sub [2, 0, 1] (by decide) rfl) trivial⟩, hS.F ht⟩) hS.2.2 dX7_rotor_26
    · have h_a := bI_1 c_11
      obtain ⟨ja, hj_a, rfl⟩ := inB_nat (by decide) h_a
      refine lv_iload_n hx hb dX7_rotor_14 rfl (lv_at hl 3 rfl) ?_
      refine s_i (va_runS (As := [.int b]) (rest := []) ⟨hx, hb, hml, hown, hts⟩ (x7_isRegister Z b) (va_cwS 1 hts (lw_S q2104 q2105 q107 q2106) rfl rfl rfl (by decide +kernel) ⟨Nat.le_of_ble_eq_true rfl, Nat.le_of_ble_eq_true rfl⟩) (gP_S hG hS (fun q _ h => h.elim) trivial) rfl rfl hl.1 rfl (lv_room (Nat.le_of_ble_eq_true rfl)) dX7_rotor_15 ⟨by first | decide | omega, by first | decide | omega⟩) ?_
      refine lv_if_ne (tgt := 27) hx hb dX7_rotor_18 (by decide) (fun c_18 => ?_) (fun c_18 => ?_)
      · have h_b := bI_1 c_18
        obtain ⟨jb, hj_b, rfl⟩ := inB_nat (by decide) h_b
        refine lv_aload_n hx hb dX7_rotor_27 rfl (lv_at hl 0 rfl) ?_
        refine lv_iload_n hx hb dX7_rotor_28 rfl (lv_at hl 2 rfl) ?_
        refine s_i (va_runV (As := [.int (nI ja)]) (rest := []) ⟨hx, hb, hml, hown, hts⟩ (x7_isVector Z o th p0 q0 r0 mu zz fA ja (Ms ja) (by omega) (hR ja (by omega))) (cwV 1 hts (lw_V q2285 q2287 qs61 q107 q2288) rfl rfl rfl (by decide +kernel) ⟨Nat.le_of_ble_eq_true rfl, Nat.le_of_ble_eq_true rfl⟩) (gP_V (va_recv hK hP (ci := 2) (q0 := 0) rfl rfl) hG hS (fun q _ h => h.elim) (hP.sub (ws' := [(o 0, .inr (2, mFs o th p0 q0 r0 mu zz)), (o 5, .inl (dA 1, 2640, .inr (.inl fA)))]) [0, 1] rfl)) rfl rfl hl.1 rfl (lv_room (Nat.le_of_ble_eq_true rfl)) dX7_rotor_29 ⟨by first | decide | omega, by first | decide | omega⟩) ?_
        refine lv_if_eq (tgt := 43) hx hb dX7_rotor_32 (by decide) (fun c_32 => ?_) (fun c_32 => ?_)
        · have hb_32 := bI_0 c_32
          refine lv_aload_n hx hb dX7_rotor_43 rfl (lv_at hl 0 rfl) ?_
          refine lv_iconst (v := nI 2) hx hb dX7_rotor_44 (by decide) ?_
          have hF9 := va_free (wc := [(o 0, .inr (2, mFs o th p0 q0 r0 mu zz))]) hD hS (fun q h => hA q h) [0] rfl
          refine c_i (wr := [(o 5, .inl (dA 1, 2640, .inr (.inl fA))), (o 6, .inl (dA 1, 32, .inr (.inl fM)))]) (va_runV (As := [.int (nI 2)]) (rest := []) ⟨hx, hb, hml, hown, hts⟩ (x7_refuses Z (va_A [(o 0, .inr (2, mFs o th p0 q0 r0 mu zz))] s.heap.size) s.heap.size (fun q h => Or.inr h) o th p0 q0 r0 mu zz (nI 2)) (cwV 1 hts (lw_V q2100 q2102 qs34 q107 q2103) rfl rfl rfl (by decide +kernel) ⟨Nat.le_of_ble_eq_true rfl, Nat.le_of_ble_eq_true rfl⟩) (gP_V (va_recv hK hP (ci := 2) (q0 := 0) rfl rfl) hG hS (fun q _ h => hF9 q h) ⟨rfl, (hP.sub (ws' := [(o 0, .inr (2, mFs o th p0 q0 r0 mu zz))]) [0] rfl), (hD.sub (ws' := [(o 0, .inr (2, mFs o th p0 q0 r0 mu zz))]) [0] (by decide) rfl).self⟩) rfl rfl hl.1 rfl (lv_room (Nat.le_of_ble_eq_true rfl)) dX7_rotor_45 ⟨by first | decide | omega, by first | decide | omega⟩) hP hD hS hA [0] [1, 2] rfl rfl (by decide) (by decide) (fun r9 u9 H locs hq hX hz hk hP hD hS => ?_)
          obtain ⟨r_3, rfl⟩ : ∃ z, z = r9 := ⟨_, rfl⟩
          obtain rfl := hq
          have hP : va_P (dC, dI) vwCl [(o 5, .inl (dA 1, 2640, .inr (.inl fA))), (o 6, .inl (dA 1, 32, .inr (.inl fM))), (o 0, .inr (2, mFs o (nI 2) p0 q0 r0 mu zz))] H := hP
          have hD : va_D A [(o 5, .inl (dA 1, 2640, .inr (.inl fA))), (o 6, .inl (dA 1, 32, .inr (.inl fM))), (o 0, .inr (2, mFs o (nI 2) p0 q0 r0 mu zz))] := hD
          subst hQe
          exact W.iret (v := nI 0) hx hb hr (fun t ht hW => ⟨⟨_, (fA, fM, mu, nI 2), rfl, ModPost.mk0 (c := nI 2) (by simp [rotX, rgB, optC, h_t, h_a, h_b, hb_32, rg_n (show jt < 8 by omega), rg_n (show ja < 8 by omega), rg_n (show jb < 8 by omega), nI_clamp (show jt < 2 ^ 31 by omega), nI_clamp (show ja < 2 ^ 31 by omega), nI_clamp (show jb < 2 ^ 31 by omega)]) (fun k9 hk9 i9 hi9 => rfl), B1_at ht (hP.sub [2, 0, 1] rfl) (hD.sub [2, 0, 1] (by decide) rfl) trivial⟩, hS.F ht⟩) hS.2.2 dX7_rotor_48
        · have hb_32 := bI_1 c_32
          refine lv_aload_n hx hb dX7_rotor_35 rfl (lv_at hl 0 rfl) ?_
          refine lv_iload_n hx hb dX7_rotor_36 rfl (lv_at hl 3 rfl) ?_
          refine s_i (va_runV (As := [.int (nI jb)]) (rest := []) ⟨hx, hb, hml, hown, hts⟩ (x7_isVector Z o th p0 q0 r0 mu zz fA jb (Ms jb) (by omega) (hR jb (by omega))) (cwV 1 hts (lw_V q2285 q2287 qs61 q107 q2288) rfl rfl rfl (by decide +kernel) ⟨Nat.le_of_ble_eq_true rfl, Nat.le_of_ble_eq_true rfl⟩) (gP_V (va_recv hK hP (ci := 2) (q0 := 0) rfl rfl) hG hS (fun q _ h => h.elim) (hP.sub (ws' := [(o 0, .inr (2, mFs o th p0 q0 r0 mu zz)), (o 5, .inl (dA 1, 2640, .inr (.inl fA)))]) [0, 1] rfl)) rfl rfl hl.1 rfl (lv_room (Nat.le_of_ble_eq_true rfl)) dX7_rotor_37 ⟨by first | decide | omega, by first | decide | omega⟩) ?_
          refine lv_if_ne (tgt := 49) hx hb dX7_rotor_40 (by decide) (fun c_40 => ?_) (fun c_40 => ?_)
          · have hb_40 := bI_1 c_40
            refine lv_aload_n hx hb dX7_rotor_49 rfl (lv_at hl 0 rfl) ?_
            refine lv_iconst (v := nI 2) hx hb dX7_rotor_50 (by decide) ?_
            refine lv_iload_n hx hb dX7_rotor_51 rfl (lv_at hl 2 rfl) ?_
            refine lv_iload_n hx hb dX7_rotor_52 rfl (lv_at hl 2 rfl) ?_
            refine lv_bipush (v := nI 25) hx hb dX7_rotor_53 (by decide) ?_
            have hF9 := va_free (wc := [(o 0, .inr (2, mFs o th p0 q0 r0 mu zz)), (o 5, .inl (dA 1, 2640, .inr (.inl fA))), (o 6, .inl (dA 1, 32, .inr (.inl fM)))]) hD hS (fun q h => hA q h) [0, 1, 2] rfl
            refine c_i (wr := []) (va_runV (As := [.int (nI 2), .int (nI ja), .int (nI ja), .int (nI 25)]) (rest := []) ⟨hx, hb, hml, hown, hts⟩ (x7_multiplies Z (va_A [(o 0, .inr (2, mFs o th p0 q0 r0 mu zz)), (o 5, .inl (dA 1, 2640, .inr (.inl fA))), (o 6, .inl (dA 1, 32, .inr (.inl fM)))] s.heap.size) s.heap.size (fun q h => Or.inr h) o th p0 q0 r0 mu zz fA fM 2 ja ja 25 (Ms ja) (Ms ja) hn (by omega) (by omega) (by omega) (by omega) (by omega) (hR ja (by omega)) (hR ja (by omega)) (sR ja (by omega)) (sR ja (by omega))) (cwV 4 hts (lw_V q2168 q2170 qs46 q107 q2171) rfl rfl rfl (by decide +kernel) ⟨Nat.le_of_ble_eq_true rfl, Nat.le_of_ble_eq_true rfl⟩) (gP_V (va_recv hK hP (ci := 2) (q0 := 0) rfl rfl) hG hS (fun q _ h => hF9 q h) ⟨rfl, (hP.sub (ws' := [(o 0, .inr (2, mFs o th p0 q0 r0 mu zz)), (o 5, .inl (dA 1, 2640, .inr (.inl fA))), (o 6, .inl (dA 1, 32, .inr (.inl fM)))]) [0, 1, 2] rfl), (hD.sub (ws' := [(o 0, .inr (2, mFs o th p0 q0 r0 mu zz)), (o 5, .inl (dA 1, 2640, .inr (.inl fA))), (o 6, .inl (dA 1, 32, .inr (.inl fM)))]) [0, 1, 2] (by decide) rfl).self⟩) rfl rfl hl.1 rfl (lv_room (Nat.le_of_ble_eq_true rfl)) dX7_rotor_55 ⟨by first | decide | omega, by first | decide | omega⟩) hP hD hS hA [0, 1, 2] [] rfl rfl (by decide) (by decide) (fun r9 u9 H locs hq hX hz hk hP hD hS => ?_)
            obtain ⟨fA_4, fM_5, mu_6⟩ := u9
            obtain ⟨r_7, rfl⟩ : ∃ z, z = r9 := ⟨_, rfl⟩
            have hq_8 := hq
            try dsimp only at hq_8
            have hP : va_P (dC, dI) vwCl [(o 0, .inr (2, mFs o th p0 q0 r0 mu_6 zz)), (o 5, .inl (dA 1, 2640, .inr (.inl fA_4))), (o 6, .inl (dA 1, 32, .inr (.inl fM_5)))] H := hP
            have hD : va_D A [(o 0, .inr (2, mFs o th p0 q0 r0 mu_6 zz)), (o 5, .inl (dA 1, 2640, .inr (.inl fA_4))), (o 6, .inl (dA 1, 32, .inr (.inl fM_5)))] := hD
            rcases hq_8.cases with ⟨P_9, e_9, rfl, hH_9, hS_9⟩ | ⟨e_9, rfl, hE_9⟩
            · have sm_10 : MSm P_9 := mulS_sm (sR ja (by omega)) (sR ja (by omega)) e_9
              have hh_11 := hS_9.hold (j := jt) (by omega) (hR jt (by omega))
              have hh_12 := hS_9.hold (j := ja) (by omega) (hR ja (by omega))
              have hh_13 := hS_9.hold (j := jb) (by omega) (hR jb (by omega))
              refine lv_if_eq (tgt := 73) hx hb dX7_rotor_58 (by decide) (fun c_58 => ?_) (fun c_58 => ?_)
              · exact absurd c_58 (by decide)
              refine lv_aload_n hx hb dX7_rotor_61 rfl (lv_at hl 0 rfl) ?_
              refine lv_iconst (v := nI 2) hx hb dX7_rotor_62 (by decide) ?_
              refine lv_iload_n hx hb dX7_rotor_63 rfl (lv_at hl 3 rfl) ?_
              refine lv_iload_n hx hb dX7_rotor_64 rfl (lv_at hl 3 rfl) ?_
              refine lv_bipush (v := nI 26) hx hb dX7_rotor_65 (by decide) ?_
              have hF9 := va_free (wc := [(o 0, .inr (2, mFs o th p0 q0 r0 mu_6 zz)), (o 5, .inl (dA 1, 2640, .inr (.inl fA_4))), (o 6, .inl (dA 1, 32, .inr (.inl fM_5)))]) hD hS (fun q h => hA q h) [0, 1, 2] rfl
              refine c_i (wr := []) (va_runV (As := [.int (nI 2), .int (nI jb), .int (nI jb), .int (nI 26)]) (rest := []) ⟨hx, hb, hml, hown, hts⟩ (x7_multiplies Z (va_A [(o 0, .inr (2, mFs o th p0 q0 r0 mu_6 zz)), (o 5, .inl (dA 1, 2640, .inr (.inl fA_4))), (o 6, .inl (dA 1, 32, .inr (.inl fM_5)))] H.size) H.size (fun q h => Or.inr h) o th p0 q0 r0 mu_6 zz fA_4 fM_5 2 jb jb 26 (Ms jb) (Ms jb) hn (by omega) (by omega) (by omega) (by omega) (by omega) hh_13 hh_13 (sR jb (by omega)) (sR jb (by omega))) (cwV 4 hts (lw_V q2168 q2170 qs46 q107 q2171) rfl rfl rfl (by decide +kernel) ⟨Nat.le_of_ble_eq_true rfl, Nat.le_of_ble_eq_true rfl⟩) (gP_V (va_recv hK hP (ci := 2) (q0 := 0) rfl rfl) hG hS (fun q _ h => hF9 q h) ⟨rfl, (hP.sub (ws' := [(o 0, .inr (2, mFs o th p0 q0 r0 mu_6 zz)), (o 5, .inl (dA 1, 2640, .inr (.inl fA_4))), (o 6, .inl (dA 1, 32, .inr (.inl fM_5)))]) [0, 1, 2] rfl), (hD.sub (ws' := [(o 0, .inr (2, mFs o th p0 q0 r0 mu_6 zz)), (o 5, .inl (dA 1, 2640, .inr (.inl fA_4))), (o 6, .inl (dA 1, 32, .inr (.inl fM_5)))]) [0, 1, 2] (by decide) rfl).self⟩) rfl rfl hl.1 rfl (lv_room (Nat.le_of_ble_eq_true rfl)) dX7_rotor_67 ⟨by first | decide | omega, by first | decide | omega⟩) hP hD hS hA [0, 1, 2] [] rfl rfl (by decide) (by decide) (fun r9 u9 H locs hq hX hz hk hP hD hS => ?_)
              obtain ⟨fA_14, fM_15, mu_16⟩ := u9
              obtain ⟨r_17, rfl⟩ : ∃ z, z = r9 := ⟨_, rfl⟩
              have hq_18 := hq
              try dsimp only at hq_18
              have hP : va_P (dC, dI) vwCl [(o 0, .inr (2, mFs o th p0 q0 r0 mu_16 zz)), (o 5, .inl (dA 1, 2640, .inr (.inl fA_14))), (o 6, .inl (dA 1, 32, .inr (.inl fM_15)))] H := hP
              have hD : va_D A [(o 0, .inr (2, mFs o th p0 q0 r0 mu_16 zz)), (o 5, .inl (dA 1, 2640, .inr (.inl fA_14))), (o 6, .inl (dA 1, 32, .inr (.inl fM_15)))] := hD
              rcases hq_18.cases with ⟨P_19, e_19, rfl, hH_19, hS_19⟩ | ⟨e_19, rfl, hE_19⟩
              · have sm_20 : MSm P_19 := mulS_sm (sR jb (by omega)) (sR jb (by omega)) e_19
                have hh_21 := hS_19.hold (j := jt) (by omega) hh_11
                have hh_22 := hS_19.hold (j := ja) (by omega) hh_12
                have hh_23 := hS_19.hold (j := jb) (by omega) hh_13
                have hh_24 := hS_19.hold (j := 25) (by omega) hH_9
                refine lv_if_ne (tgt := 79) hx hb dX7_rotor_70 (by decide) (fun c_70 => ?_) (fun c_70 => ?_)
                rotate_left
                · exact absurd c_70 (by decide)
                refine lv_aload_n hx hb dX7_rotor_79 rfl (lv_at hl 0 rfl) ?_
                refine lv_bipush (v := nI 25) hx hb dX7_rotor_80 (by decide) ?_
                refine s_i (va_runV (As := [.int (nI 25)]) (rest := []) ⟨hx, hb, hml, hown, hts⟩ (x7_terms Z o th p0 q0 r0 mu_16 zz fA_14 25 (by omega)) (cwV 1 hts (lw_V q2189 q2191 qs50 q107 q2192) rfl rfl rfl (by decide +kernel) ⟨Nat.le_of_ble_eq_true rfl, Nat.le_of_ble_eq_true rfl⟩) (gP_V (va_recv hK hP (ci := 2) (q0 := 0) rfl rfl) hG hS (fun q _ h => h.elim) (hP.sub (ws' := [(o 0, .inr (2, mFs o th p0 q0 r0 mu_16 zz)), (o 5, .inl (dA 1, 2640, .inr (.inl fA_14)))]) [0, 1] rfl)) rfl rfl hl.1 rfl (lv_room (Nat.le_of_ble_eq_true rfl)) dX7_rotor_82 ⟨by first | decide | omega, by first | decide | omega⟩) ?_
                have ht9 := cntN_le (fun j => P_9 (j + 1)) 32
                have ht8 : trmS P_9 ≤ 32 := ht9
                refine e_i (y := nI (trmS P_9)) (n_eq (trm_of hh_24)) ?_
                refine lv_if_eq (tgt := 99) hx hb dX7_rotor_85 (by decide) (fun c_85 => ?_) (fun c_85 => ?_)
                · have c_85 : (trmS P_9) = 0 := (nI_eq (a := (trmS P_9)) (b := 0) (by omega) (by omega)).mp c_85
                  refine lv_aload_n hx hb dX7_rotor_99 rfl (lv_at hl 0 rfl) ?_
                  refine lv_iconst (v := nI 4) hx hb dX7_rotor_100 (by decide) ?_
                  have hF9 := va_free (wc := [(o 0, .inr (2, mFs o th p0 q0 r0 mu_16 zz))]) hD hS (fun q h => hA q h) [0] rfl
                  refine c_i (wr := [(o 5, .inl (dA 1, 2640, .inr (.inl fA_14))), (o 6, .inl (dA 1, 32, .inr (.inl fM_15)))]) (va_runV (As := [.int (nI 4)]) (rest := []) ⟨hx, hb, hml, hown, hts⟩ (x7_refuses Z (va_A [(o 0, .inr (2, mFs o th p0 q0 r0 mu_16 zz))] H.size) H.size (fun q h => Or.inr h) o th p0 q0 r0 mu_16 zz (nI 4)) (cwV 1 hts (lw_V q2100 q2102 qs34 q107 q2103) rfl rfl rfl (by decide +kernel) ⟨Nat.le_of_ble_eq_true rfl, Nat.le_of_ble_eq_true rfl⟩) (gP_V (va_recv hK hP (ci := 2) (q0 := 0) rfl rfl) hG hS (fun q _ h => hF9 q h) ⟨rfl, (hP.sub (ws' := [(o 0, .inr (2, mFs o th p0 q0 r0 mu_16 zz))]) [0] rfl), (hD.sub (ws' := [(o 0, .inr (2, mFs o th p0 q0 r0 mu_16 zz))]) [0] (by decide) rfl).self⟩) rfl rfl hl.1 rfl (lv_room (Nat.le_of_ble_eq_true rfl)) dX7_rotor_101 ⟨by first | decide | omega, by first | decide | omega⟩) hP hD hS hA [0] [1, 2] rfl rfl (by decide) (by decide) (fun r9 u9 H locs hq hX hz hk hP hD hS => ?_)
                  obtain ⟨r_25, rfl⟩ : ∃ z, z = r9 := ⟨_, rfl⟩
                  obtain rfl := hq
                  have hP : va_P (dC, dI) vwCl [(o 5, .inl (dA 1, 2640, .inr (.inl fA_14))), (o 6, .inl (dA 1, 32, .inr (.inl fM_15))), (o 0, .inr (2, mFs o (nI 4) p0 q0 r0 mu_16 zz))] H := hP
                  have hD : va_D A [(o 5, .inl (dA 1, 2640, .inr (.inl fA_14))), (o 6, .inl (dA 1, 32, .inr (.inl fM_15))), (o 0, .inr (2, mFs o (nI 4) p0 q0 r0 mu_16 zz))] := hD
                  subst hQe
                  exact W.iret (v := nI 0) hx hb hr (fun t ht hW => ⟨⟨_, (fA_14, fM_15, mu_16, nI 4), rfl, ModPost.mk0 (c := nI 4) (by simp [rotX, rgB, optC, h_t, h_a, h_b, hb_32, hb_40, e_9, e_19, c_85, rg_n (show jt < 8 by omega), rg_n (show ja < 8 by omega), rg_n (show jb < 8 by omega), nI_clamp (show jt < 2 ^ 31 by omega), nI_clamp (show ja < 2 ^ 31 by omega), nI_clamp (show jb < 2 ^ 31 by omega)]) (fun k9 hk9 i9 hi9 => by (try dsimp only [outH] at hk9); show fA_14 (33 * k9 + i9) = fA (33 * k9 + i9); rw [hS_19 _ (by omega), hS_9 _ (by omega)]), B1_at ht (hP.sub [2, 0, 1] rfl) (hD.sub [2, 0, 1] (by decide) rfl) trivial⟩, hS.F ht⟩) hS.2.2 dX7_rotor_104
                · have c_85 : ¬ (trmS P_9) = 0 := fun h => c_85 ((nI_eq (a := (trmS P_9)) (b := 0) (by omega) (by omega)).mpr h)
                  refine lv_aload_n hx hb dX7_rotor_88 rfl (lv_at hl 0 rfl) ?_
                  refine lv_bipush (v := nI 25) hx hb dX7_rotor_89 (by decide) ?_
                  refine lv_bipush (v := nI 26) hx hb dX7_rotor_91 (by decide) ?_
                  refine s_i (va_runV (As := [.int (nI 25), .int (nI 26)]) (rest := []) ⟨hx, hb, hml, hown, hts⟩ (x7_areAlike Z o th p0 q0 r0 mu_16 zz fA_14 25 26 P_9 P_19 (by omega) (by omega) hh_24 hH_19) (cwV 2 hts (lw_V q2289 q2291 qs62 q107 q2292) rfl rfl rfl (by decide +kernel) ⟨Nat.le_of_ble_eq_true rfl, Nat.le_of_ble_eq_true rfl⟩) (gP_V (va_recv hK hP (ci := 2) (q0 := 0) rfl rfl) hG hS (fun q _ h => h.elim) (hP.sub (ws' := [(o 0, .inr (2, mFs o th p0 q0 r0 mu_16 zz)), (o 5, .inl (dA 1, 2640, .inr (.inl fA_14)))]) [0, 1] rfl)) rfl rfl hl.1 rfl (lv_room (Nat.le_of_ble_eq_true rfl)) dX7_rotor_93 ⟨by first | decide | omega, by first | decide | omega⟩) ?_
                  refine lv_if_ne (tgt := 105) hx hb dX7_rotor_96 (by decide) (fun c_96 => ?_) (fun c_96 => ?_)
                  · have hb_96 := bI_1 c_96
                    refine lv_aload_n hx hb dX7_rotor_105 rfl (lv_at hl 0 rfl) ?_
                    refine lv_iconst (v := nI 2) hx hb dX7_rotor_106 (by decide) ?_
                    refine lv_iload_n hx hb dX7_rotor_107 rfl (lv_at hl 3 rfl) ?_
                    refine lv_iload_n hx hb dX7_rotor_108 rfl (lv_at hl 2 rfl) ?_
                    refine lv_bipush (v := nI 27) hx hb dX7_rotor_109 (by decide) ?_
                    have hF9 := va_free (wc := [(o 0, .inr (2, mFs o th p0 q0 r0 mu_16 zz)), (o 5, .inl (dA 1, 2640, .inr (.inl fA_14))), (o 6, .inl (dA 1, 32, .inr (.inl fM_15)))]) hD hS (fun q h => hA q h) [0, 1, 2] rfl
                    refine c_i (wr := []) (va_runV (As := [.int (nI 2), .int (nI jb), .int (nI ja), .int (nI 27)]) (rest := []) ⟨hx, hb, hml, hown, hts⟩ (x7_multiplies Z (va_A [(o 0, .inr (2, mFs o th p0 q0 r0 mu_16 zz)), (o 5, .inl (dA 1, 2640, .inr (.inl fA_14))), (o 6, .inl (dA 1, 32, .inr (.inl fM_15)))] H.size) H.size (fun q h => Or.inr h) o th p0 q0 r0 mu_16 zz fA_14 fM_15 2 jb ja 27 (Ms jb) (Ms ja) hn (by omega) (by omega) (by omega) (by omega) (by omega) hh_23 hh_22 (sR jb (by omega)) (sR ja (by omega))) (cwV 4 hts (lw_V q2168 q2170 qs46 q107 q2171) rfl rfl rfl (by decide +kernel) ⟨Nat.le_of_ble_eq_true rfl, Nat.le_of_ble_eq_true rfl⟩) (gP_V (va_recv hK hP (ci := 2) (q0 := 0) rfl rfl) hG hS (fun q _ h => hF9 q h) ⟨rfl, (hP.sub (ws' := [(o 0, .inr (2, mFs o th p0 q0 r0 mu_16 zz)), (o 5, .inl (dA 1, 2640, .inr (.inl fA_14))), (o 6, .inl (dA 1, 32, .inr (.inl fM_15)))]) [0, 1, 2] rfl), (hD.sub (ws' := [(o 0, .inr (2, mFs o th p0 q0 r0 mu_16 zz)), (o 5, .inl (dA 1, 2640, .inr (.inl fA_14))), (o 6, .inl (dA 1, 32, .inr (.inl fM_15)))]) [0, 1, 2] (by decide) rfl).self⟩) rfl rfl hl.1 rfl (lv_room (Nat.le_of_ble_eq_true rfl)) dX7_rotor_111 ⟨by first | decide | omega, by first | decide | omega⟩) hP hD hS hA [0, 1, 2] [] rfl rfl (by decide) (by decide) (fun r9 u9 H locs hq hX hz hk hP hD hS => ?_)
                    obtain ⟨fA_26, fM_27, mu_28⟩ := u9
                    obtain ⟨r_29, rfl⟩ : ∃ z, z = r9 := ⟨_, rfl⟩
                    have hq_30 := hq
                    try dsimp only at hq_30
                    have hP : va_P (dC, dI) vwCl [(o 0, .inr (2, mFs o th p0 q0 r0 mu_28 zz)), (o 5, .inl (dA 1, 2640, .inr (.inl fA_26))), (o 6, .inl (dA 1, 32, .inr (.inl fM_27)))] H := hP
                    have hD : va_D A [(o 0, .inr (2, mFs o th p0 q0 r0 mu_28 zz)), (o 5, .inl (dA 1, 2640, .inr (.inl fA_26))), (o 6, .inl (dA 1, 32, .inr (.inl fM_27)))] := hD
                    rcases hq_30.cases with ⟨P_31, e_31, rfl, hH_31, hS_31⟩ | ⟨e_31, rfl, hE_31⟩
                    · have sm_32 : MSm P_31 := mulS_sm (sR jb (by omega)) (sR ja (by omega)) e_31
                      have hh_33 := hS_31.hold (j := jt) (by omega) hh_21
                      have hh_34 := hS_31.hold (j := ja) (by omega) hh_22
                      have hh_35 := hS_31.hold (j := jb) (by omega) hh_23
                      have hh_36 := hS_31.hold (j := 25) (by omega) hh_24
                      have hh_37 := hS_31.hold (j := 26) (by omega) hH_19
                      refine lv_if_eq (tgt := 142) hx hb dX7_rotor_114 (by decide) (fun c_114 => ?_) (fun c_114 => ?_)
                      · exact absurd c_114 (by decide)
                      refine lv_aload_n hx hb dX7_rotor_117 rfl (lv_at hl 0 rfl) ?_
                      refine lv_bipush (v := nI 25) hx hb dX7_rotor_118 (by decide) ?_
                      refine lv_bipush (v := nI 27) hx hb dX7_rotor_120 (by decide) ?_
                      refine lv_iconst (v := nI 1) hx hb dX7_rotor_122 (by decide) ?_
                      refine lv_bipush (v := nI 24) hx hb dX7_rotor_123 (by decide) ?_
                      have hF9 := va_free (wc := [(o 0, .inr (2, mFs o th p0 q0 r0 mu_28 zz)), (o 5, .inl (dA 1, 2640, .inr (.inl fA_26))), (o 6, .inl (dA 1, 32, .inr (.inl fM_27)))]) hD hS (fun q h => hA q h) [0, 1, 2] rfl
                      refine c_i (wr := []) (va_runV (As := [.int (nI 25), .int (nI 27), .int (nI 1), .int (nI 24)]) (rest := []) ⟨hx, hb, hml, hown, hts⟩ (x7_adds Z (va_A [(o 0, .inr (2, mFs o th p0 q0 r0 mu_28 zz)), (o 5, .inl (dA 1, 2640, .inr (.inl fA_26))), (o 6, .inl (dA 1, 32, .inr (.inl fM_27)))] H.size) H.size (fun q h => Or.inr h) o th p0 q0 r0 mu_28 zz fA_26 fM_27 25 27 24 (nI 1) P_9 P_31 (Or.inl rfl) (by omega) (by omega) (by omega) hh_36 hH_31 sm_10 sm_32) (cwV 4 hts (lw_V q2111 q2113 qs36 q107 q2114) rfl rfl rfl (by decide +kernel) ⟨Nat.le_of_ble_eq_true rfl, Nat.le_of_ble_eq_true rfl⟩) (gP_V (va_recv hK hP (ci := 2) (q0 := 0) rfl rfl) hG hS (fun q _ h => hF9 q h) ⟨rfl, (hP.sub (ws' := [(o 0, .inr (2, mFs o th p0 q0 r0 mu_28 zz)), (o 5, .inl (dA 1, 2640, .inr (.inl fA_26))), (o 6, .inl (dA 1, 32, .inr (.inl fM_27)))]) [0, 1, 2] rfl), (hD.sub (ws' := [(o 0, .inr (2, mFs o th p0 q0 r0 mu_28 zz)), (o 5, .inl (dA 1, 2640, .inr (.inl fA_26))), (o 6, .inl (dA 1, 32, .inr (.inl fM_27)))]) [0, 1, 2] (by decide) rfl).self⟩) rfl rfl hl.1 rfl (lv_room (Nat.le_of_ble_eq_true rfl)) dX7_rotor_125 ⟨by first | decide | omega, by first | decide | omega⟩) hP hD hS hA [0, 1, 2] [] rfl rfl (by decide) (by decide) (fun r9 u9 H locs hq hX hz hk hP hD hS => ?_)
                      obtain ⟨fA_38, fM_39, mu_40⟩ := u9
                      obtain ⟨r_41, rfl⟩ : ∃ z, z = r9 := ⟨_, rfl⟩
                      have hq_42 := hq
                      try dsimp only at hq_42
                      have hP : va_P (dC, dI) vwCl [(o 0, .inr (2, mFs o th p0 q0 r0 mu_40 zz)), (o 5, .inl (dA 1, 2640, .inr (.inl fA_38))), (o 6, .inl (dA 1, 32, .inr (.inl fM_39)))] H := hP
                      have hD : va_D A [(o 0, .inr (2, mFs o th p0 q0 r0 mu_40 zz)), (o 5, .inl (dA 1, 2640, .inr (.inl fA_38))), (o 6, .inl (dA 1, 32, .inr (.inl fM_39)))] := hD
                      rcases hq_42.cases with ⟨P_43, e_43, rfl, hH_43, hS_43⟩ | ⟨e_43, rfl, hE_43⟩
                      · have sm_44 : MSm P_43 := addS_sm sm_10 sm_32 e_43
                        have hh_45 := hS_43.hold (j := jt) (by omega) hh_33
                        have hh_46 := hS_43.hold (j := ja) (by omega) hh_34
                        have hh_47 := hS_43.hold (j := jb) (by omega) hh_35
                        have hh_48 := hS_43.hold (j := 25) (by omega) hh_36
                        have hh_49 := hS_43.hold (j := 26) (by omega) hh_37
                        have hh_50 := hS_43.hold (j := 27) (by omega) hH_31
                        refine lv_if_eq (tgt := 142) hx hb dX7_rotor_128 (by decide) (fun c_128 => ?_) (fun c_128 => ?_)
                        · exact absurd c_128 (by decide)
                        refine lv_aload_n hx hb dX7_rotor_131 rfl (lv_at hl 0 rfl) ?_
                        refine lv_bipush (v := nI 24) hx hb dX7_rotor_132 (by decide) ?_
                        refine lv_bipush (v := nI 28) hx hb dX7_rotor_134 (by decide) ?_
                        have hF9 := va_free (wc := [(o 0, .inr (2, mFs o th p0 q0 r0 mu_40 zz)), (o 5, .inl (dA 1, 2640, .inr (.inl fA_38))), (o 6, .inl (dA 1, 32, .inr (.inl fM_39)))]) hD hS (fun q h => hA q h) [0, 1, 2] rfl
                        refine c_i (wr := []) (va_runV (As := [.int (nI 24), .int (nI 28)]) (rest := []) ⟨hx, hb, hml, hown, hts⟩ (x7_laysSquare Z (va_A [(o 0, .inr (2, mFs o th p0 q0 r0 mu_40 zz)), (o 5, .inl (dA 1, 2640, .inr (.inl fA_38))), (o 6, .inl (dA 1, 32, .inr (.inl fM_39)))] H.size) H.size (fun q h => Or.inr h) o th p0 q0 r0 mu_40 zz fA_38 fM_39 24 28 P_43 (by omega) (by omega) (by omega) (by omega) (by omega) hH_43 sm_44) (cwV 2 hts (lw_V q2201 q2203 qs52 q107 q2204) rfl rfl rfl (by decide +kernel) ⟨Nat.le_of_ble_eq_true rfl, Nat.le_of_ble_eq_true rfl⟩) (gP_V (va_recv hK hP (ci := 2) (q0 := 0) rfl rfl) hG hS (fun q _ h => hF9 q h) ⟨rfl, (hP.sub (ws' := [(o 0, .inr (2, mFs o th p0 q0 r0 mu_40 zz)), (o 5, .inl (dA 1, 2640, .inr (.inl fA_38))), (o 6, .inl (dA 1, 32, .inr (.inl fM_39)))]) [0, 1, 2] rfl), (hD.sub (ws' := [(o 0, .inr (2, mFs o th p0 q0 r0 mu_40 zz)), (o 5, .inl (dA 1, 2640, .inr (.inl fA_38))), (o 6, .inl (dA 1, 32, .inr (.inl fM_39)))]) [0, 1, 2] (by decide) rfl).self⟩) rfl rfl hl.1 rfl (lv_room (Nat.le_of_ble_eq_true rfl)) dX7_rotor_136 ⟨by first | decide | omega, by first | decide | omega⟩) hP hD hS hA [0, 1, 2] [] rfl rfl (by decide) (by decide) (fun r9 u9 H locs hq hX hz hk hP hD hS => ?_)
                        obtain ⟨fA_51, fM_52, mu_53⟩ := u9
                        obtain ⟨r_54, rfl⟩ : ∃ z, z = r9 := ⟨_, rfl⟩
                        have hq_55 := hq
                        try dsimp only at hq_55
                        have hP : va_P (dC, dI) vwCl [(o 0, .inr (2, mFs o th p0 q0 r0 mu_53 zz)), (o 5, .inl (dA 1, 2640, .inr (.inl fA_51))), (o 6, .inl (dA 1, 32, .inr (.inl fM_52)))] H := hP
                        have hD : va_D A [(o 0, .inr (2, mFs o th p0 q0 r0 mu_53 zz)), (o 5, .inl (dA 1, 2640, .inr (.inl fA_51))), (o 6, .inl (dA 1, 32, .inr (.inl fM_52)))] := hD
                        obtain ⟨hR_56, hq_55⟩ := hq_55
                        have smR_56 := trnS_sm (op := 0) (p := p0) (q := q0) (r := r0) (by omega) sm_44
                        rcases hq_55 with ⟨P_56, e_56, rfl, hH_56, hS_56⟩ | ⟨e_56, rfl, hE_56⟩
                        · have sm_57 : MSm P_56 := mulS_sm sm_44 smR_56 e_56
                          have hh_58 := hS_56.hold (k := jt) (by omega) hh_45
                          have hh_59 := hS_56.hold (k := ja) (by omega) hh_46
                          have hh_60 := hS_56.hold (k := jb) (by omega) hh_47
                          have hh_61 := hS_56.hold (k := 25) (by omega) hh_48
                          have hh_62 := hS_56.hold (k := 26) (by omega) hh_49
                          have hh_63 := hS_56.hold (k := 27) (by omega) hh_50
                          have hh_64 := hS_56.hold (k := 24) (by omega) hH_43
                          refine lv_if_ne (tgt := 148) hx hb dX7_rotor_139 (by decide) (fun c_139 => ?_) (fun c_139 => ?_)
                          rotate_left
                          · exact absurd c_139 (by decide)
                          refine lv_aload_n hx hb dX7_rotor_148 rfl (lv_at hl 0 rfl) ?_
                          refine lv_bipush (v := nI 28) hx hb dX7_rotor_149 (by decide) ?_
                          refine s_i (va_runV (As := [.int (nI 28)]) (rest := []) ⟨hx, hb, hml, hown, hts⟩ (x7_terms Z o th p0 q0 r0 mu_53 zz fA_51 28 (by omega)) (cwV 1 hts (lw_V q2189 q2191 qs50 q107 q2192) rfl rfl rfl (by decide +kernel) ⟨Nat.le_of_ble_eq_true rfl, Nat.le_of_ble_eq_true rfl⟩) (gP_V (va_recv hK hP (ci := 2) (q0 := 0) rfl rfl) hG hS (fun q _ h => h.elim) (hP.sub (ws' := [(o 0, .inr (2, mFs o th p0 q0 r0 mu_53 zz)), (o 5, .inl (dA 1, 2640, .inr (.inl fA_51)))]) [0, 1] rfl)) rfl rfl hl.1 rfl (lv_room (Nat.le_of_ble_eq_true rfl)) dX7_rotor_151 ⟨by first | decide | omega, by first | decide | omega⟩) ?_
                          have ht7 : trmS P_56 ≤ 32 := cntN_le _ 32
                          refine e_i (y := nI (trmS P_56)) (n_eq (trm_of hH_56)) ?_
                          refine lv_if_ne (tgt := 165) hx hb dX7_rotor_154 (by decide) (fun c_154 => ?_) (fun c_154 => ?_)
                          · have c_154 : ¬ (trmS P_56) = 0 := fun h => c_154 ((nI_eq (a := (trmS P_56)) (b := 0) (by omega) (by omega)).mpr h)
                            refine lv_aload_n hx hb dX7_rotor_165 rfl (lv_at hl 0 rfl) ?_
                            refine lv_bipush (v := nI 24) hx hb dX7_rotor_166 (by decide) ?_
                            refine lv_iload_n hx hb dX7_rotor_168 rfl (lv_at hl 1 rfl) ?_
                            have hF9 := va_free (wc := [(o 0, .inr (2, mFs o th p0 q0 r0 mu_53 zz)), (o 5, .inl (dA 1, 2640, .inr (.inl fA_51)))]) hD hS (fun q h => hA q h) [0, 1] rfl
                            refine c_i (wr := [(o 6, .inl (dA 1, 32, .inr (.inl fM_52)))]) (va_runV (As := [.int (nI 24), .int (nI jt)]) (rest := []) ⟨hx, hb, hml, hown, hts⟩ (x7_gives Z (va_A [(o 0, .inr (2, mFs o th p0 q0 r0 mu_53 zz)), (o 5, .inl (dA 1, 2640, .inr (.inl fA_51)))] H.size) H.size (fun q h => Or.inr h) o th p0 q0 r0 mu_53 zz fA_51 fM_52 24 jt (by omega) (by omega)) (cwV 2 hts (lw_V q2181 q2183 qs48 q107 q2184) rfl rfl rfl (by decide +kernel) ⟨Nat.le_of_ble_eq_true rfl, Nat.le_of_ble_eq_true rfl⟩) (gP_V (va_recv hK hP (ci := 2) (q0 := 0) rfl rfl) hG hS (fun q _ h => hF9 q h) ⟨rfl, (hP.sub (ws' := [(o 0, .inr (2, mFs o th p0 q0 r0 mu_53 zz)), (o 5, .inl (dA 1, 2640, .inr (.inl fA_51)))]) [0, 1] rfl), (hD.sub (ws' := [(o 0, .inr (2, mFs o th p0 q0 r0 mu_53 zz)), (o 5, .inl (dA 1, 2640, .inr (.inl fA_51)))]) [0, 1] (by decide) rfl).self⟩) rfl rfl hl.1 rfl (lv_room (Nat.le_of_ble_eq_true rfl)) dX7_rotor_169 ⟨by first | decide | omega, by first | decide | omega⟩) hP hD hS hA [0, 1] [2] rfl rfl (by decide) (by decide) (fun r9 u9 H locs hq hX hz hk hP hD hS => ?_)
                            obtain ⟨r_65, rfl⟩ : ∃ z, z = r9 := ⟨_, rfl⟩
                            obtain rfl := hq
                            have hP : va_P (dC, dI) vwCl [(o 6, .inl (dA 1, 32, .inr (.inl fM_52))), (o 0, .inr (2, mFs o (nI 0) p0 q0 r0 mu_53 zz)), (o 5, .inl (dA 1, 2640, .inr (.inl (cpS fA_51 24 jt))))] H := hP
                            have hD : va_D A [(o 6, .inl (dA 1, 32, .inr (.inl fM_52))), (o 0, .inr (2, mFs o (nI 0) p0 q0 r0 mu_53 zz)), (o 5, .inl (dA 1, 2640, .inr (.inl (cpS fA_51 24 jt))))] := hD
                            have hc_67 := cpS_hold (t := jt) hh_64
                            have hs_68 := cpS_same (fA := fA_51) (k := 24) (t := jt)
                            generalize cpS fA_51 24 jt = fA_66 at hP hD hc_67 hs_68 ⊢
                            have hh_69 := hs_68.hold (j := 25) (by omega) hh_61
                            have hh_70 := hs_68.hold (j := 26) (by omega) hh_62
                            have hh_71 := hs_68.hold (j := 27) (by omega) hh_63
                            have hh_72 := hs_68.hold (j := 24) (by omega) hh_64
                            have hh_73 := hs_68.hold (j := 28) (by omega) hH_56
                            have hh_74 := hs_68.hold (j := 31) (by omega) hR_56
                            subst hQe
                            exact W.iret (v := nI (cntN (fun j => fA_66 (33 * jt + 1 + j)) 32)) hx hb hr (fun t ht hW => ⟨⟨_, (fA_66, fM_52, mu_53, nI 0), rfl, (by rw [rg_n (show jt < 8 by omega)]; exact ModPost.mk1 (P := P_43) (by simp [rotX, rgB, optC, h_t, h_a, h_b, hb_32, hb_40, e_9, e_19, c_85, hb_96, e_31, e_43, e_56, c_154, rg_n (show jt < 8 by omega), rg_n (show ja < 8 by omega), rg_n (show jb < 8 by omega), nI_clamp (show jt < 2 ^ 31 by omega), nI_clamp (show ja < 2 ^ 31 by omega), nI_clamp (show jb < 2 ^ 31 by omega)]) hc_67 (fun k9 hk9 i9 hi9 => by (try dsimp only [outH] at hk9); show fA_66 (33 * k9 + i9) = fA (33 * k9 + i9); rw [hs_68 _ (by omega), hS_56 k9 (by omega) i9 hi9, hS_43 _ (by omega), hS_31 _ (by omega), hS_19 _ (by omega), hS_9 _ (by omega)])), B1_at ht (hP.sub [1, 2, 0] rfl) (hD.sub [1, 2, 0] (by decide) rfl) trivial⟩, hS.F ht⟩) hS.2.2 dX7_rotor_172
                          · have c_154 : (trmS P_56) = 0 := (nI_eq (a := (trmS P_56)) (b := 0) (by omega) (by omega)).mp c_154
                            refine lv_aload_n hx hb dX7_rotor_157 rfl (lv_at hl 0 rfl) ?_
                            refine lv_iconst (v := nI 4) hx hb dX7_rotor_158 (by decide) ?_
                            have hF9 := va_free (wc := [(o 0, .inr (2, mFs o th p0 q0 r0 mu_53 zz))]) hD hS (fun q h => hA q h) [0] rfl
                            refine c_i (wr := [(o 5, .inl (dA 1, 2640, .inr (.inl fA_51))), (o 6, .inl (dA 1, 32, .inr (.inl fM_52)))]) (va_runV (As := [.int (nI 4)]) (rest := []) ⟨hx, hb, hml, hown, hts⟩ (x7_refuses Z (va_A [(o 0, .inr (2, mFs o th p0 q0 r0 mu_53 zz))] H.size) H.size (fun q h => Or.inr h) o th p0 q0 r0 mu_53 zz (nI 4)) (cwV 1 hts (lw_V q2100 q2102 qs34 q107 q2103) rfl rfl rfl (by decide +kernel) ⟨Nat.le_of_ble_eq_true rfl, Nat.le_of_ble_eq_true rfl⟩) (gP_V (va_recv hK hP (ci := 2) (q0 := 0) rfl rfl) hG hS (fun q _ h => hF9 q h) ⟨rfl, (hP.sub (ws' := [(o 0, .inr (2, mFs o th p0 q0 r0 mu_53 zz))]) [0] rfl), (hD.sub (ws' := [(o 0, .inr (2, mFs o th p0 q0 r0 mu_53 zz))]) [0] (by decide) rfl).self⟩) rfl rfl hl.1 rfl (lv_room (Nat.le_of_ble_eq_true rfl)) dX7_rotor_159 ⟨by first | decide | omega, by first | decide | omega⟩) hP hD hS hA [0] [1, 2] rfl rfl (by decide) (by decide) (fun r9 u9 H locs hq hX hz hk hP hD hS => ?_)
                            obtain ⟨r_75, rfl⟩ : ∃ z, z = r9 := ⟨_, rfl⟩
                            obtain rfl := hq
                            have hP : va_P (dC, dI) vwCl [(o 5, .inl (dA 1, 2640, .inr (.inl fA_51))), (o 6, .inl (dA 1, 32, .inr (.inl fM_52))), (o 0, .inr (2, mFs o (nI 4) p0 q0 r0 mu_53 zz))] H := hP
                            have hD : va_D A [(o 5, .inl (dA 1, 2640, .inr (.inl fA_51))), (o 6, .inl (dA 1, 32, .inr (.inl fM_52))), (o 0, .inr (2, mFs o (nI 4) p0 q0 r0 mu_53 zz))] := hD
                            refine lv_goto (tgt := 172) hx hb dX7_rotor_162 (by decide) ?_
                            subst hQe
                            exact W.iret (v := nI 0) hx hb hr (fun t ht hW => ⟨⟨_, (fA_51, fM_52, mu_53, nI 4), rfl, ModPost.mk0 (c := nI 4) (by simp [rotX, rgB, optC, h_t, h_a, h_b, hb_32, hb_40, e_9, e_19, c_85, hb_96, e_31, e_43, e_56, c_154, rg_n (show jt < 8 by omega), rg_n (show ja < 8 by omega), rg_n (show jb < 8 by omega), nI_clamp (show jt < 2 ^ 31 by omega), nI_clamp (show ja < 2 ^ 31 by omega), nI_clamp (show jb < 2 ^ 31 by omega)]) (fun k9 hk9 i9 hi9 => by (try dsimp only [outH] at hk9); show fA_51 (33 * k9 + i9) = fA (33 * k9 + i9); rw [hS_56 k9 (by omega) i9 hi9, hS_43 _ (by omega), hS_31 _ (by omega), hS_19 _ (by omega), hS_9 _ (by omega)]), B1_at ht (hP.sub [2, 0, 1] rfl) (hD.sub [2, 0, 1] (by decide) rfl) trivial⟩, hS.F ht⟩) hS.2.2 dX7_rotor_172
                        · have hh_76 := hE_56.hold (k := jt) (by omega) hh_45
                          have hh_77 := hE_56.hold (k := ja) (by omega) hh_46
                          have hh_78 := hE_56.hold (k := jb) (by omega) hh_47
                          have hh_79 := hE_56.hold (k := 25) (by omega) hh_48
                          have hh_80 := hE_56.hold (k := 26) (by omega) hh_49
                          have hh_81 := hE_56.hold (k := 27) (by omega) hh_50
                          have hh_82 := hE_56.hold (k := 24) (by omega) hH_43
                          refine lv_if_ne (tgt := 148) hx hb dX7_rotor_139 (by decide) (fun c_139 => ?_) (fun c_139 => ?_)
                          · exact absurd (by decide) c_139
                          refine lv_aload_n hx hb dX7_rotor_142 rfl (lv_at hl 0 rfl) ?_
                          refine lv_iconst (v := nI 3) hx hb dX7_rotor_143 (by decide) ?_
                          have hF9 := va_free (wc := [(o 0, .inr (2, mFs o th p0 q0 r0 mu_53 zz))]) hD hS (fun q h => hA q h) [0] rfl
                          refine c_i (wr := [(o 5, .inl (dA 1, 2640, .inr (.inl fA_51))), (o 6, .inl (dA 1, 32, .inr (.inl fM_52)))]) (va_runV (As := [.int (nI 3)]) (rest := []) ⟨hx, hb, hml, hown, hts⟩ (x7_refuses Z (va_A [(o 0, .inr (2, mFs o th p0 q0 r0 mu_53 zz))] H.size) H.size (fun q h => Or.inr h) o th p0 q0 r0 mu_53 zz (nI 3)) (cwV 1 hts (lw_V q2100 q2102 qs34 q107 q2103) rfl rfl rfl (by decide +kernel) ⟨Nat.le_of_ble_eq_true rfl, Nat.le_of_ble_eq_true rfl⟩) (gP_V (va_recv hK hP (ci := 2) (q0 := 0) rfl rfl) hG hS (fun q _ h => hF9 q h) ⟨rfl, (hP.sub (ws' := [(o 0, .inr (2, mFs o th p0 q0 r0 mu_53 zz))]) [0] rfl), (hD.sub (ws' := [(o 0, .inr (2, mFs o th p0 q0 r0 mu_53 zz))]) [0] (by decide) rfl).self⟩) rfl rfl hl.1 rfl (lv_room (Nat.le_of_ble_eq_true rfl)) dX7_rotor_144 ⟨by first | decide | omega, by first | decide | omega⟩) hP hD hS hA [0] [1, 2] rfl rfl (by decide) (by decide) (fun r9 u9 H locs hq hX hz hk hP hD hS => ?_)
                          obtain ⟨r_83, rfl⟩ : ∃ z, z = r9 := ⟨_, rfl⟩
                          obtain rfl := hq
                          have hP : va_P (dC, dI) vwCl [(o 5, .inl (dA 1, 2640, .inr (.inl fA_51))), (o 6, .inl (dA 1, 32, .inr (.inl fM_52))), (o 0, .inr (2, mFs o (nI 3) p0 q0 r0 mu_53 zz))] H := hP
                          have hD : va_D A [(o 5, .inl (dA 1, 2640, .inr (.inl fA_51))), (o 6, .inl (dA 1, 32, .inr (.inl fM_52))), (o 0, .inr (2, mFs o (nI 3) p0 q0 r0 mu_53 zz))] := hD
                          subst hQe
                          exact W.iret (v := nI 0) hx hb hr (fun t ht hW => ⟨⟨_, (fA_51, fM_52, mu_53, nI 3), rfl, ModPost.mk0 (c := nI 3) (by simp [rotX, rgB, optC, h_t, h_a, h_b, hb_32, hb_40, e_9, e_19, c_85, hb_96, e_31, e_43, e_56, rg_n (show jt < 8 by omega), rg_n (show ja < 8 by omega), rg_n (show jb < 8 by omega), nI_clamp (show jt < 2 ^ 31 by omega), nI_clamp (show ja < 2 ^ 31 by omega), nI_clamp (show jb < 2 ^ 31 by omega)]) (fun k9 hk9 i9 hi9 => by (try dsimp only [outH] at hk9); show fA_51 (33 * k9 + i9) = fA (33 * k9 + i9); rw [hE_56 k9 (by omega) i9 hi9, hS_43 _ (by omega), hS_31 _ (by omega), hS_19 _ (by omega), hS_9 _ (by omega)]), B1_at ht (hP.sub [2, 0, 1] rfl) (hD.sub [2, 0, 1] (by decide) rfl) trivial⟩, hS.F ht⟩) hS.2.2 dX7_rotor_147
                      · have hh_84 : Hold fA_38 jt (Ms jt) := by rw [hE_43]; exact hh_33
                        have hh_85 : Hold fA_38 ja (Ms ja) := by rw [hE_43]; exact hh_34
                        have hh_86 : Hold fA_38 jb (Ms jb) := by rw [hE_43]; exact hh_35
                        have hh_87 : Hold fA_38 25 P_9 := by rw [hE_43]; exact hh_36
                        have hh_88 : Hold fA_38 26 P_19 := by rw [hE_43]; exact hh_37
                        have hh_89 : Hold fA_38 27 P_31 := by rw [hE_43]; exact hH_31
                        refine lv_if_eq (tgt := 142) hx hb dX7_rotor_128 (by decide) (fun c_128 => ?_) (fun c_128 => ?_)
                        rotate_left
                        · exact absurd (by decide) c_128
                        refine lv_aload_n hx hb dX7_rotor_142 rfl (lv_at hl 0 rfl) ?_
                        refine lv_iconst (v := nI 3) hx hb dX7_rotor_143 (by decide) ?_
                        have hF9 := va_free (wc := [(o 0, .inr (2, mFs o th p0 q0 r0 mu_40 zz))]) hD hS (fun q h => hA q h) [0] rfl
                        refine c_i (wr := [(o 5, .inl (dA 1, 2640, .inr (.inl fA_38))), (o 6, .inl (dA 1, 32, .inr (.inl fM_39)))]) (va_runV (As := [.int (nI 3)]) (rest := []) ⟨hx, hb, hml, hown, hts⟩ (x7_refuses Z (va_A [(o 0, .inr (2, mFs o th p0 q0 r0 mu_40 zz))] H.size) H.size (fun q h => Or.inr h) o th p0 q0 r0 mu_40 zz (nI 3)) (cwV 1 hts (lw_V q2100 q2102 qs34 q107 q2103) rfl rfl rfl (by decide +kernel) ⟨Nat.le_of_ble_eq_true rfl, Nat.le_of_ble_eq_true rfl⟩) (gP_V (va_recv hK hP (ci := 2) (q0 := 0) rfl rfl) hG hS (fun q _ h => hF9 q h) ⟨rfl, (hP.sub (ws' := [(o 0, .inr (2, mFs o th p0 q0 r0 mu_40 zz))]) [0] rfl), (hD.sub (ws' := [(o 0, .inr (2, mFs o th p0 q0 r0 mu_40 zz))]) [0] (by decide) rfl).self⟩) rfl rfl hl.1 rfl (lv_room (Nat.le_of_ble_eq_true rfl)) dX7_rotor_144 ⟨by first | decide | omega, by first | decide | omega⟩) hP hD hS hA [0] [1, 2] rfl rfl (by decide) (by decide) (fun r9 u9 H locs hq hX hz hk hP hD hS => ?_)
                        obtain ⟨r_90, rfl⟩ : ∃ z, z = r9 := ⟨_, rfl⟩
                        obtain rfl := hq
                        have hP : va_P (dC, dI) vwCl [(o 5, .inl (dA 1, 2640, .inr (.inl fA_38))), (o 6, .inl (dA 1, 32, .inr (.inl fM_39))), (o 0, .inr (2, mFs o (nI 3) p0 q0 r0 mu_40 zz))] H := hP
                        have hD : va_D A [(o 5, .inl (dA 1, 2640, .inr (.inl fA_38))), (o 6, .inl (dA 1, 32, .inr (.inl fM_39))), (o 0, .inr (2, mFs o (nI 3) p0 q0 r0 mu_40 zz))] := hD
                        subst hQe
                        exact W.iret (v := nI 0) hx hb hr (fun t ht hW => ⟨⟨_, (fA_38, fM_39, mu_40, nI 3), rfl, ModPost.mk0 (c := nI 3) (by simp [rotX, rgB, optC, h_t, h_a, h_b, hb_32, hb_40, e_9, e_19, c_85, hb_96, e_31, e_43, rg_n (show jt < 8 by omega), rg_n (show ja < 8 by omega), rg_n (show jb < 8 by omega), nI_clamp (show jt < 2 ^ 31 by omega), nI_clamp (show ja < 2 ^ 31 by omega), nI_clamp (show jb < 2 ^ 31 by omega)]) (fun k9 hk9 i9 hi9 => by (try dsimp only [outH] at hk9); show fA_38 (33 * k9 + i9) = fA (33 * k9 + i9); rw [hE_43, hS_31 _ (by omega), hS_19 _ (by omega), hS_9 _ (by omega)]), B1_at ht (hP.sub [2, 0, 1] rfl) (hD.sub [2, 0, 1] (by decide) rfl) trivial⟩, hS.F ht⟩) hS.2.2 dX7_rotor_147
                    · have hh_91 : Hold fA_26 jt (Ms jt) := by rw [hE_31]; exact hh_21
                      have hh_92 : Hold fA_26 ja (Ms ja) := by rw [hE_31]; exact hh_22
                      have hh_93 : Hold fA_26 jb (Ms jb) := by rw [hE_31]; exact hh_23
                      have hh_94 : Hold fA_26 25 P_9 := by rw [hE_31]; exact hh_24
                      have hh_95 : Hold fA_26 26 P_19 := by rw [hE_31]; exact hH_19
                      refine lv_if_eq (tgt := 142) hx hb dX7_rotor_114 (by decide) (fun c_114 => ?_) (fun c_114 => ?_)
                      rotate_left
                      · exact absurd (by decide) c_114
                      refine lv_aload_n hx hb dX7_rotor_142 rfl (lv_at hl 0 rfl) ?_
                      refine lv_iconst (v := nI 3) hx hb dX7_rotor_143 (by decide) ?_
                      have hF9 := va_free (wc := [(o 0, .inr (2, mFs o th p0 q0 r0 mu_28 zz))]) hD hS (fun q h => hA q h) [0] rfl
                      refine c_i (wr := [(o 5, .inl (dA 1, 2640, .inr (.inl fA_26))), (o 6, .inl (dA 1, 32, .inr (.inl fM_27)))]) (va_runV (As := [.int (nI 3)]) (rest := []) ⟨hx, hb, hml, hown, hts⟩ (x7_refuses Z (va_A [(o 0, .inr (2, mFs o th p0 q0 r0 mu_28 zz))] H.size) H.size (fun q h => Or.inr h) o th p0 q0 r0 mu_28 zz (nI 3)) (cwV 1 hts (lw_V q2100 q2102 qs34 q107 q2103) rfl rfl rfl (by decide +kernel) ⟨Nat.le_of_ble_eq_true rfl, Nat.le_of_ble_eq_true rfl⟩) (gP_V (va_recv hK hP (ci := 2) (q0 := 0) rfl rfl) hG hS (fun q _ h => hF9 q h) ⟨rfl, (hP.sub (ws' := [(o 0, .inr (2, mFs o th p0 q0 r0 mu_28 zz))]) [0] rfl), (hD.sub (ws' := [(o 0, .inr (2, mFs o th p0 q0 r0 mu_28 zz))]) [0] (by decide) rfl).self⟩) rfl rfl hl.1 rfl (lv_room (Nat.le_of_ble_eq_true rfl)) dX7_rotor_144 ⟨by first | decide | omega, by first | decide | omega⟩) hP hD hS hA [0] [1, 2] rfl rfl (by decide) (by decide) (fun r9 u9 H locs hq hX hz hk hP hD hS => ?_)
                      obtain ⟨r_96, rfl⟩ : ∃ z, z = r9 := ⟨_, rfl⟩
                      obtain rfl := hq
                      have hP : va_P (dC, dI) vwCl [(o 5, .inl (dA 1, 2640, .inr (.inl fA_26))), (o 6, .inl (dA 1, 32, .inr (.inl fM_27))), (o 0, .inr (2, mFs o (nI 3) p0 q0 r0 mu_28 zz))] H := hP
                      have hD : va_D A [(o 5, .inl (dA 1, 2640, .inr (.inl fA_26))), (o 6, .inl (dA 1, 32, .inr (.inl fM_27))), (o 0, .inr (2, mFs o (nI 3) p0 q0 r0 mu_28 zz))] := hD
                      subst hQe
                      exact W.iret (v := nI 0) hx hb hr (fun t ht hW => ⟨⟨_, (fA_26, fM_27, mu_28, nI 3), rfl, ModPost.mk0 (c := nI 3) (by simp [rotX, rgB, optC, h_t, h_a, h_b, hb_32, hb_40, e_9, e_19, c_85, hb_96, e_31, rg_n (show jt < 8 by omega), rg_n (show ja < 8 by omega), rg_n (show jb < 8 by omega), nI_clamp (show jt < 2 ^ 31 by omega), nI_clamp (show ja < 2 ^ 31 by omega), nI_clamp (show jb < 2 ^ 31 by omega)]) (fun k9 hk9 i9 hi9 => by (try dsimp only [outH] at hk9); show fA_26 (33 * k9 + i9) = fA (33 * k9 + i9); rw [hE_31, hS_19 _ (by omega), hS_9 _ (by omega)]), B1_at ht (hP.sub [2, 0, 1] rfl) (hD.sub [2, 0, 1] (by decide) rfl) trivial⟩, hS.F ht⟩) hS.2.2 dX7_rotor_147
                  · have hb_96 := bI_0 c_96
                    refine lv_aload_n hx hb dX7_rotor_99 rfl (lv_at hl 0 rfl) ?_
                    refine lv_iconst (v := nI 4) hx hb dX7_rotor_100 (by decide) ?_
                    have hF9 := va_free (wc := [(o 0, .inr (2, mFs o th p0 q0 r0 mu_16 zz))]) hD hS (fun q h => hA q h) [0] rfl
                    refine c_i (wr := [(o 5, .inl (dA 1, 2640, .inr (.inl fA_14))), (o 6, .inl (dA 1, 32, .inr (.inl fM_15)))]) (va_runV (As := [.int (nI 4)]) (rest := []) ⟨hx, hb, hml, hown, hts⟩ (x7_refuses Z (va_A [(o 0, .inr (2, mFs o th p0 q0 r0 mu_16 zz))] H.size) H.size (fun q h => Or.inr h) o th p0 q0 r0 mu_16 zz (nI 4)) (cwV 1 hts (lw_V q2100 q2102 qs34 q107 q2103) rfl rfl rfl (by decide +kernel) ⟨Nat.le_of_ble_eq_true rfl, Nat.le_of_ble_eq_true rfl⟩) (gP_V (va_recv hK hP (ci := 2) (q0 := 0) rfl rfl) hG hS (fun q _ h => hF9 q h) ⟨rfl, (hP.sub (ws' := [(o 0, .inr (2, mFs o th p0 q0 r0 mu_16 zz))]) [0] rfl), (hD.sub (ws' := [(o 0, .inr (2, mFs o th p0 q0 r0 mu_16 zz))]) [0] (by decide) rfl).self⟩) rfl rfl hl.1 rfl (lv_room (Nat.le_of_ble_eq_true rfl)) dX7_rotor_101 ⟨by first | decide | omega, by first | decide | omega⟩) hP hD hS hA [0] [1, 2] rfl rfl (by decide) (by decide) (fun r9 u9 H locs hq hX hz hk hP hD hS => ?_)
                    obtain ⟨r_97, rfl⟩ : ∃ z, z = r9 := ⟨_, rfl⟩
                    obtain rfl := hq
                    have hP : va_P (dC, dI) vwCl [(o 5, .inl (dA 1, 2640, .inr (.inl fA_14))), (o 6, .inl (dA 1, 32, .inr (.inl fM_15))), (o 0, .inr (2, mFs o (nI 4) p0 q0 r0 mu_16 zz))] H := hP
                    have hD : va_D A [(o 5, .inl (dA 1, 2640, .inr (.inl fA_14))), (o 6, .inl (dA 1, 32, .inr (.inl fM_15))), (o 0, .inr (2, mFs o (nI 4) p0 q0 r0 mu_16 zz))] := hD
                    subst hQe
                    exact W.iret (v := nI 0) hx hb hr (fun t ht hW => ⟨⟨_, (fA_14, fM_15, mu_16, nI 4), rfl, ModPost.mk0 (c := nI 4) (by simp [rotX, rgB, optC, h_t, h_a, h_b, hb_32, hb_40, e_9, e_19, c_85, hb_96, rg_n (show jt < 8 by omega), rg_n (show ja < 8 by omega), rg_n (show jb < 8 by omega), nI_clamp (show jt < 2 ^ 31 by omega), nI_clamp (show ja < 2 ^ 31 by omega), nI_clamp (show jb < 2 ^ 31 by omega)]) (fun k9 hk9 i9 hi9 => by (try dsimp only [outH] at hk9); show fA_14 (33 * k9 + i9) = fA (33 * k9 + i9); rw [hS_19 _ (by omega), hS_9 _ (by omega)]), B1_at ht (hP.sub [2, 0, 1] rfl) (hD.sub [2, 0, 1] (by decide) rfl) trivial⟩, hS.F ht⟩) hS.2.2 dX7_rotor_104
              · have hh_98 : Hold fA_14 jt (Ms jt) := by rw [hE_19]; exact hh_11
                have hh_99 : Hold fA_14 ja (Ms ja) := by rw [hE_19]; exact hh_12
                have hh_100 : Hold fA_14 jb (Ms jb) := by rw [hE_19]; exact hh_13
                have hh_101 : Hold fA_14 25 P_9 := by rw [hE_19]; exact hH_9
                refine lv_if_ne (tgt := 79) hx hb dX7_rotor_70 (by decide) (fun c_70 => ?_) (fun c_70 => ?_)
                · exact absurd (by decide) c_70
                refine lv_aload_n hx hb dX7_rotor_73 rfl (lv_at hl 0 rfl) ?_
                refine lv_iconst (v := nI 3) hx hb dX7_rotor_74 (by decide) ?_
                have hF9 := va_free (wc := [(o 0, .inr (2, mFs o th p0 q0 r0 mu_16 zz))]) hD hS (fun q h => hA q h) [0] rfl
                refine c_i (wr := [(o 5, .inl (dA 1, 2640, .inr (.inl fA_14))), (o 6, .inl (dA 1, 32, .inr (.inl fM_15)))]) (va_runV (As := [.int (nI 3)]) (rest := []) ⟨hx, hb, hml, hown, hts⟩ (x7_refuses Z (va_A [(o 0, .inr (2, mFs o th p0 q0 r0 mu_16 zz))] H.size) H.size (fun q h => Or.inr h) o th p0 q0 r0 mu_16 zz (nI 3)) (cwV 1 hts (lw_V q2100 q2102 qs34 q107 q2103) rfl rfl rfl (by decide +kernel) ⟨Nat.le_of_ble_eq_true rfl, Nat.le_of_ble_eq_true rfl⟩) (gP_V (va_recv hK hP (ci := 2) (q0 := 0) rfl rfl) hG hS (fun q _ h => hF9 q h) ⟨rfl, (hP.sub (ws' := [(o 0, .inr (2, mFs o th p0 q0 r0 mu_16 zz))]) [0] rfl), (hD.sub (ws' := [(o 0, .inr (2, mFs o th p0 q0 r0 mu_16 zz))]) [0] (by decide) rfl).self⟩) rfl rfl hl.1 rfl (lv_room (Nat.le_of_ble_eq_true rfl)) dX7_rotor_75 ⟨by first | decide | omega, by first | decide | omega⟩) hP hD hS hA [0] [1, 2] rfl rfl (by decide) (by decide) (fun r9 u9 H locs hq hX hz hk hP hD hS => ?_)
                obtain ⟨r_102, rfl⟩ : ∃ z, z = r9 := ⟨_, rfl⟩
                obtain rfl := hq
                have hP : va_P (dC, dI) vwCl [(o 5, .inl (dA 1, 2640, .inr (.inl fA_14))), (o 6, .inl (dA 1, 32, .inr (.inl fM_15))), (o 0, .inr (2, mFs o (nI 3) p0 q0 r0 mu_16 zz))] H := hP
                have hD : va_D A [(o 5, .inl (dA 1, 2640, .inr (.inl fA_14))), (o 6, .inl (dA 1, 32, .inr (.inl fM_15))), (o 0, .inr (2, mFs o (nI 3) p0 q0 r0 mu_16 zz))] := hD
                subst hQe
                exact W.iret (v := nI 0) hx hb hr (fun t ht hW => ⟨⟨_, (fA_14, fM_15, mu_16, nI 3), rfl, ModPost.mk0 (c := nI 3) (by simp [rotX, rgB, optC, h_t, h_a, h_b, hb_32, hb_40, e_9, e_19, rg_n (show jt < 8 by omega), rg_n (show ja < 8 by omega), rg_n (show jb < 8 by omega), nI_clamp (show jt < 2 ^ 31 by omega), nI_clamp (show ja < 2 ^ 31 by omega), nI_clamp (show jb < 2 ^ 31 by omega)]) (fun k9 hk9 i9 hi9 => by (try dsimp only [outH] at hk9); show fA_14 (33 * k9 + i9) = fA (33 * k9 + i9); rw [hE_19, hS_9 _ (by omega)]), B1_at ht (hP.sub [2, 0, 1] rfl) (hD.sub [2, 0, 1] (by decide) rfl) trivial⟩, hS.F ht⟩) hS.2.2 dX7_rotor_78
            · have hh_103 : Hold fA_4 jt (Ms jt) := by rw [hE_9]; exact (hR jt (by omega))
              have hh_104 : Hold fA_4 ja (Ms ja) := by rw [hE_9]; exact (hR ja (by omega))
              have hh_105 : Hold fA_4 jb (Ms jb) := by rw [hE_9]; exact (hR jb (by omega))
              refine lv_if_eq (tgt := 73) hx hb dX7_rotor_58 (by decide) (fun c_58 => ?_) (fun c_58 => ?_)
              rotate_left
              · exact absurd (by decide) c_58
              refine lv_aload_n hx hb dX7_rotor_73 rfl (lv_at hl 0 rfl) ?_
              refine lv_iconst (v := nI 3) hx hb dX7_rotor_74 (by decide) ?_
              have hF9 := va_free (wc := [(o 0, .inr (2, mFs o th p0 q0 r0 mu_6 zz))]) hD hS (fun q h => hA q h) [0] rfl
              refine c_i (wr := [(o 5, .inl (dA 1, 2640, .inr (.inl fA_4))), (o 6, .inl (dA 1, 32, .inr (.inl fM_5)))]) (va_runV (As := [.int (nI 3)]) (rest := []) ⟨hx, hb, hml, hown, hts⟩ (x7_refuses Z (va_A [(o 0, .inr (2, mFs o th p0 q0 r0 mu_6 zz))] H.size) H.size (fun q h => Or.inr h) o th p0 q0 r0 mu_6 zz (nI 3)) (cwV 1 hts (lw_V q2100 q2102 qs34 q107 q2103) rfl rfl rfl (by decide +kernel) ⟨Nat.le_of_ble_eq_true rfl, Nat.le_of_ble_eq_true rfl⟩) (gP_V (va_recv hK hP (ci := 2) (q0 := 0) rfl rfl) hG hS (fun q _ h => hF9 q h) ⟨rfl, (hP.sub (ws' := [(o 0, .inr (2, mFs o th p0 q0 r0 mu_6 zz))]) [0] rfl), (hD.sub (ws' := [(o 0, .inr (2, mFs o th p0 q0 r0 mu_6 zz))]) [0] (by decide) rfl).self⟩) rfl rfl hl.1 rfl (lv_room (Nat.le_of_ble_eq_true rfl)) dX7_rotor_75 ⟨by first | decide | omega, by first | decide | omega⟩) hP hD hS hA [0] [1, 2] rfl rfl (by decide) (by decide) (fun r9 u9 H locs hq hX hz hk hP hD hS => ?_)
              obtain ⟨r_106, rfl⟩ : ∃ z, z = r9 := ⟨_, rfl⟩
              obtain rfl := hq
              have hP : va_P (dC, dI) vwCl [(o 5, .inl (dA 1, 2640, .inr (.inl fA_4))), (o 6, .inl (dA 1, 32, .inr (.inl fM_5))), (o 0, .inr (2, mFs o (nI 3) p0 q0 r0 mu_6 zz))] H := hP
              have hD : va_D A [(o 5, .inl (dA 1, 2640, .inr (.inl fA_4))), (o 6, .inl (dA 1, 32, .inr (.inl fM_5))), (o 0, .inr (2, mFs o (nI 3) p0 q0 r0 mu_6 zz))] := hD
              subst hQe
              exact W.iret (v := nI 0) hx hb hr (fun t ht hW => ⟨⟨_, (fA_4, fM_5, mu_6, nI 3), rfl, ModPost.mk0 (c := nI 3) (by simp [rotX, rgB, optC, h_t, h_a, h_b, hb_32, hb_40, e_9, rg_n (show jt < 8 by omega), rg_n (show ja < 8 by omega), rg_n (show jb < 8 by omega), nI_clamp (show jt < 2 ^ 31 by omega), nI_clamp (show ja < 2 ^ 31 by omega), nI_clamp (show jb < 2 ^ 31 by omega)]) (fun k9 hk9 i9 hi9 => by (try dsimp only [outH] at hk9); show fA_4 (33 * k9 + i9) = fA (33 * k9 + i9); rw [hE_9]), B1_at ht (hP.sub [2, 0, 1] rfl) (hD.sub [2, 0, 1] (by decide) rfl) trivial⟩, hS.F ht⟩) hS.2.2 dX7_rotor_78
          · have hb_40 := bI_0 c_40
            refine lv_aload_n hx hb dX7_rotor_43 rfl (lv_at hl 0 rfl) ?_
            refine lv_iconst (v := nI 2) hx hb dX7_rotor_44 (by decide) ?_
            have hF9 := va_free (wc := [(o 0, .inr (2, mFs o th p0 q0 r0 mu zz))]) hD hS (fun q h => hA q h) [0] rfl
            refine c_i (wr := [(o 5, .inl (dA 1, 2640, .inr (.inl fA))), (o 6, .inl (dA 1, 32, .inr (.inl fM)))]) (va_runV (As := [.int (nI 2)]) (rest := []) ⟨hx, hb, hml, hown, hts⟩ (x7_refuses Z (va_A [(o 0, .inr (2, mFs o th p0 q0 r0 mu zz))] s.heap.size) s.heap.size (fun q h => Or.inr h) o th p0 q0 r0 mu zz (nI 2)) (cwV 1 hts (lw_V q2100 q2102 qs34 q107 q2103) rfl rfl rfl (by decide +kernel) ⟨Nat.le_of_ble_eq_true rfl, Nat.le_of_ble_eq_true rfl⟩) (gP_V (va_recv hK hP (ci := 2) (q0 := 0) rfl rfl) hG hS (fun q _ h => hF9 q h) ⟨rfl, (hP.sub (ws' := [(o 0, .inr (2, mFs o th p0 q0 r0 mu zz))]) [0] rfl), (hD.sub (ws' := [(o 0, .inr (2, mFs o th p0 q0 r0 mu zz))]) [0] (by decide) rfl).self⟩) rfl rfl hl.1 rfl (lv_room (Nat.le_of_ble_eq_true rfl)) dX7_rotor_45 ⟨by first | decide | omega, by first | decide | omega⟩) hP hD hS hA [0] [1, 2] rfl rfl (by decide) (by decide) (fun r9 u9 H locs hq hX hz hk hP hD hS => ?_)
            obtain ⟨r_107, rfl⟩ : ∃ z, z = r9 := ⟨_, rfl⟩
            obtain rfl := hq
            have hP : va_P (dC, dI) vwCl [(o 5, .inl (dA 1, 2640, .inr (.inl fA))), (o 6, .inl (dA 1, 32, .inr (.inl fM))), (o 0, .inr (2, mFs o (nI 2) p0 q0 r0 mu zz))] H := hP
            have hD : va_D A [(o 5, .inl (dA 1, 2640, .inr (.inl fA))), (o 6, .inl (dA 1, 32, .inr (.inl fM))), (o 0, .inr (2, mFs o (nI 2) p0 q0 r0 mu zz))] := hD
            subst hQe
            exact W.iret (v := nI 0) hx hb hr (fun t ht hW => ⟨⟨_, (fA, fM, mu, nI 2), rfl, ModPost.mk0 (c := nI 2) (by simp [rotX, rgB, optC, h_t, h_a, h_b, hb_32, hb_40, rg_n (show jt < 8 by omega), rg_n (show ja < 8 by omega), rg_n (show jb < 8 by omega), nI_clamp (show jt < 2 ^ 31 by omega), nI_clamp (show ja < 2 ^ 31 by omega), nI_clamp (show jb < 2 ^ 31 by omega)]) (fun k9 hk9 i9 hi9 => rfl), B1_at ht (hP.sub [2, 0, 1] rfl) (hD.sub [2, 0, 1] (by decide) rfl) trivial⟩, hS.F ht⟩) hS.2.2 dX7_rotor_48
      · have h_b := bI_0 c_18
        refine lv_aload_n hx hb dX7_rotor_21 rfl (lv_at hl 0 rfl) ?_
        refine lv_iconst (v := nI 1) hx hb dX7_rotor_22 (by decide) ?_
        have hF9 := va_free (wc := [(o 0, .inr (2, mFs o th p0 q0 r0 mu zz))]) hD hS (fun q h => hA q h) [0] rfl
        refine c_i (wr := [(o 5, .inl (dA 1, 2640, .inr (.inl fA))), (o 6, .inl (dA 1, 32, .inr (.inl fM)))]) (va_runV (As := [.int (nI 1)]) (rest := []) ⟨hx, hb, hml, hown, hts⟩ (x7_refuses Z (va_A [(o 0, .inr (2, mFs o th p0 q0 r0 mu zz))] s.heap.size) s.heap.size (fun q h => Or.inr h) o th p0 q0 r0 mu zz (nI 1)) (cwV 1 hts (lw_V q2100 q2102 qs34 q107 q2103) rfl rfl rfl (by decide +kernel) ⟨Nat.le_of_ble_eq_true rfl, Nat.le_of_ble_eq_true rfl⟩) (gP_V (va_recv hK hP (ci := 2) (q0 := 0) rfl rfl) hG hS (fun q _ h => hF9 q h) ⟨rfl, (hP.sub (ws' := [(o 0, .inr (2, mFs o th p0 q0 r0 mu zz))]) [0] rfl), (hD.sub (ws' := [(o 0, .inr (2, mFs o th p0 q0 r0 mu zz))]) [0] (by decide) rfl).self⟩) rfl rfl hl.1 rfl (lv_room (Nat.le_of_ble_eq_true rfl)) dX7_rotor_23 ⟨by first | decide | omega, by first | decide | omega⟩) hP hD hS hA [0] [1, 2] rfl rfl (by decide) (by decide) (fun r9 u9 H locs hq hX hz hk hP hD hS => ?_)
        obtain ⟨r_108, rfl⟩ : ∃ z, z = r9 := ⟨_, rfl⟩
        obtain rfl := hq
        have hP : va_P (dC, dI) vwCl [(o 5, .inl (dA 1, 2640, .inr (.inl fA))), (o 6, .inl (dA 1, 32, .inr (.inl fM))), (o 0, .inr (2, mFs o (nI 1) p0 q0 r0 mu zz))] H := hP
        have hD : va_D A [(o 5, .inl (dA 1, 2640, .inr (.inl fA))), (o 6, .inl (dA 1, 32, .inr (.inl fM))), (o 0, .inr (2, mFs o (nI 1) p0 q0 r0 mu zz))] := hD
        subst hQe
        exact W.iret (v := nI 0) hx hb hr (fun t ht hW => ⟨⟨_, (fA, fM, mu, nI 1), rfl, ModPost.mk0 (c := nI 1) (by simp [rotX, rgB, optC, h_t, h_a, h_b, rg_n (show jt < 8 by omega), rg_n (show ja < 8 by omega), nI_clamp (show jt < 2 ^ 31 by omega), nI_clamp (show ja < 2 ^ 31 by omega)]) (fun k9 hk9 i9 hi9 => rfl), B1_at ht (hP.sub [2, 0, 1] rfl) (hD.sub [2, 0, 1] (by decide) rfl) trivial⟩, hS.F ht⟩) hS.2.2 dX7_rotor_26
set_option maxHeartbeats 4000000 in
theorem x7_empties {l : Launch} {dC : Nat → ClassId} {dI : Nat → Nat → Nat} {dA : Nat → ClassId} {s0 : State} {b0 : Addr} (Z : Z0 l dC dI dA s0 b0) (A : Nat → Prop) (sz : Nat) (hA : ∀ q : Nat, sz ≤ q → A q) (o : Nat → Nat) (th : Int32) (p0 q0 r0 : Nat) (mu : Int64) (zz : Nat → Int32) (fA fM : Nat → Int64) (k1 : Nat) (hk1 : k1 < 80) : Met l yX7_empties (ws_ yX7_empties cX7_empties 3 none) ({ frames := 1, cells := 0, slots := 0, locals := 60 } : Room) (gP [.ref (o 0), .int (nI k1)] s0 A (fun H => H.size = sz ∧ va_P (dC, dI) vwCl [(o 0, .inr (2, mFs o th p0 q0 r0 mu zz)), (o 5, .inl (dA 1, 2640, .inr (.inl fA)))] H ∧ va_D A [(o 0, .inr (2, mFs o th p0 q0 r0 mu zz)), (o 5, .inl (dA 1, 2640, .inr (.inl fA)))])) (va_Qv (S := Nat → Int64) (fun u => Hold u k1 (numM 0) ∧ Same fA u k1) (B1 (dC, dI) A (fun u => [(o 0, .inr (2, mFs o th p0 q0 r0 mu zz)), (o 5, .inl (dA 1, 2640, .inr (.inl u)))]) (fun _ _ => True)) A) 0 0 A := by
  refine Met.ofW (cc := cX7_empties) (maxL := 3) (ret := none) (by decide) rfl ?_
  intro p e s m args below meth c s₁ B hml hv
  obtain ⟨hav, hG, hsz, hP, hD⟩ := hv
  have hx := B.exec
  have hb := B.bytes
  have hr := B.returns
  have hts := atoms_spec (ws := (ws_ yX7_empties cX7_empties 3 none)) B.pre
  have hts : ∀ w ∈ lw_all, w.before _ s = true := fun w h => hts w (List.mem_cons_of_mem _ h)
  have hown : s.vm.findClass RX7 = some m.cls := findClass_of_methodNamed B.named
  have hlocks := B.notSynchronized
  have hK := hG.K Z
  subst hsz
  have hS : va_S A s.heap s.heap [] := va_S.rf
  have hl := lv_entry ([.ref (o 0), .int (nI k1)]) (n := 3) (Nat.le_of_ble_eq_true rfl)
  rw [show entryFrame m args 3 = entryFrame m ([.ref (o 0), .int (nI k1)] : List Value).toArray 3 from by rw [hav], lg_entry_eq]
  generalize (lg_sl ([.ref (o 0), .int (nI k1)]) ++ List.replicate (3 - (lg_sl ([.ref (o 0), .int (nI k1)])).length) Slot.unset).toArray = ls at hl ⊢
  have hl : lv_has ls 3 [(0, .ref (o 0)), (1, .int (nI k1))] := hl
  generalize hQe : MQ below _ _ s _ _ _ = Q
  change W p l e ({ frames := 1, cells := 0, slots := 0, locals := 60 } : Room) s m args below meth c s.heap [] 0 0 Q (F0 m 0 ls [])
  refine lv_iconst (v := nI 0) hx hb dX7_empties_0 (by decide) ?_
  refine lv_istore_n (lv' := [(2, .int (nI 0)), (0, .ref (o 0)), (1, .int (nI k1))]) hx hb dX7_empties_1 rfl hl (by decide) rfl (fun ls hl => ?_)
  have e9 : (fA : Nat → Int64) = (wrS fA (33 * k1) 0 (fun i => if i = 0 then 1 else 0)) := (wr_0 _ _ _).symm
  rw [e9] at hP hD; clear e9
  have loop_1 : ∀ (n9_1 : Nat) (k : Nat) (H : Heap) (locs : List Loc) (ls : Array Slot), 33 - k < n9_1 → (k ≤ 33) → va_P (dC, dI) vwCl [(o 0, .inr (2, mFs o th p0 q0 r0 mu zz)), (o 5, .inl (dA 1, 2640, .inr (.inl (wrS fA (33 * k1) k (fun i => if i = 0 then 1 else 0)))))] H → va_D A [(o 0, .inr (2, mFs o th p0 q0 r0 mu zz)), (o 5, .inl (dA 1, 2640, .inr (.inl (wrS fA (33 * k1) k (fun i => if i = 0 then 1 else 0)))))] → va_S A s.heap H locs → lv_has ls 3 [(0, .ref (o 0)), (1, .int (nI k1)), (2, .int (nI k))] → W p l e ({ frames := 1, cells := 0, slots := 0, locals := 60 } : Room) s m args below meth c H locs 0 0 Q (F0 m 2 ls []) := by
    intro n9_1
    induction n9_1 with
    | zero => intro k H locs ls hm_1; exact absurd hm_1 (Nat.not_lt_zero _)
    | succ n9_1 ih_1 =>
      intro k H locs ls hm_1 hk9 hP hD hS hl
      refine lv_iload_n hx hb dX7_empties_2 rfl (lv_at hl 2 rfl) ?_
      refine lv_bipush (v := nI 33) hx hb dX7_empties_3 (by decide) ?_
      refine lv_icmp_ge (tgt := 34) hx hb dX7_empties_5 (by decide) (fun c_5 => ?_) (fun c_5 => ?_)
      · have c_5 : 33 ≤ k := (nI_leI (a := 33) (b := k) (by omega) (by omega)).mp c_5
        obtain rfl : k = 33 := by omega
        subst hQe
        exact W.vret hx hb hr (fun t ht hW => ⟨⟨wrS fA (33 * k1) 33 (fun i => if i = 0 then 1 else 0), rfl, ⟨fun i hi => by rw [wr_at hi]; unfold numM; split; rfl; split <;> rfl, fun j hj => wr_out (by omega)⟩, B1_at ht (hP.sub [0, 1] rfl) (hD.sub [0, 1] (by decide) rfl) trivial⟩, hS.F ht⟩) hS.2.2 dX7_empties_34
      · have c_5 : ¬ 33 ≤ k := fun h => c_5 ((nI_leI (a := 33) (b := k) (by omega) (by omega)).mpr h)
        refine lv_aload_n hx hb dX7_empties_8 rfl (lv_at hl 0 rfl) ?_
        refine va_get (D := (dC, dI)) (ci := 2) (v := .ref (o 5)) (C := RX7) (T := TX7) (N := 27) hx hb hts in_X7 hown hK hP 0 rfl rfl 8 (by decide) (hts _ q2014) (fun _ h9 => h9) rfl dX7_empties_9 ?_
        refine lv_bipush (v := nI 33) hx hb dX7_empties_12 (by decide) ?_
        refine lv_iload_n hx hb dX7_empties_14 rfl (lv_at hl 1 rfl) ?_
        refine lv_imul hx hb dX7_empties_15 ?_
        refine e_i (y := nI (33 * k1)) (pk_mul _ _) ?_
        refine lv_iload_n hx hb dX7_empties_16 rfl (lv_at hl 2 rfl) ?_
        refine lv_iadd hx hb dX7_empties_17 ?_
        refine e_i (y := nI (33 * k1 + k)) (nI_add _ _) ?_
        refine lv_iload_n hx hb dX7_empties_18 rfl (lv_at hl 2 rfl) ?_
        refine lv_if_ne (tgt := 26) hx hb dX7_empties_19 (by decide) (fun c_19 => ?_) (fun c_19 => ?_)
        · have c_19 : ¬ k = 0 := fun h => c_19 ((nI_eq (a := k) (b := 0) (by omega) (by omega)).mpr h)
          refine lv_lconst (v := 0) hx hb dX7_empties_26 rfl ?_
          refine a_last hx hb hK hP hD hS 1 1 rfl rfl (by omega) (by omega) dX7_empties_27 (fun H locs hP hD hS => ?_)
          have hP : va_P (dC, dI) vwCl [(o 0, .inr (2, mFs o th p0 q0 r0 mu zz)), (o 5, .inl (dA 1, 2640, .inr (.inl (vp_updL (wrS fA (33 * k1) k (fun i => if i = 0 then 1 else 0)) (33 * k1 + k) 0))))] H := hP
          have hD : va_D A [(o 0, .inr (2, mFs o th p0 q0 r0 mu zz)), (o 5, .inl (dA 1, 2640, .inr (.inl (vp_updL (wrS fA (33 * k1) k (fun i => if i = 0 then 1 else 0)) (33 * k1 + k) 0))))] := hD
          have e9 : (vp_updL (wrS fA (33 * k1) k (fun i => if i = 0 then 1 else 0)) (33 * k1 + k) 0 : Nat → Int64) = (wrS fA (33 * k1) (k + 1) (fun i => if i = 0 then 1 else 0)) := wr_s rfl (by show _ = if k = 0 then (1 : Int64) else 0; rw [if_neg c_19])
          rw [e9] at hP hD; clear e9
          refine lv_iinc (v := nI (k + 1)) (lv' := [(2, .int (nI (k + 1))), (0, .ref (o 0)), (1, .int (nI k1))]) hx hb dX7_empties_28 hl (k := 2) rfl (by exact nI_add _ 1) (by decide) rfl (fun ls hl => ?_)
          refine lv_goto (tgt := 2) hx hb dX7_empties_31 (by decide) ?_
          exact ih_1 (k + 1) H locs ls (by omega) (by omega) (hP.sub [0, 1] rfl) (hD.sub [0, 1] (by decide) rfl) hS (lv_sub hl [1, 2, 0] rfl)
        · have c_19 : k = 0 := (nI_eq (a := k) (b := 0) (by omega) (by omega)).mp c_19
          refine lv_lconst (v := 1) hx hb dX7_empties_22 rfl ?_
          refine lv_goto (tgt := 27) hx hb dX7_empties_23 (by decide) ?_
          refine a_last hx hb hK hP hD hS 1 1 rfl rfl (by omega) (by omega) dX7_empties_27 (fun H locs hP hD hS => ?_)
          have hP : va_P (dC, dI) vwCl [(o 0, .inr (2, mFs o th p0 q0 r0 mu zz)), (o 5, .inl (dA 1, 2640, .inr (.inl (vp_updL (wrS fA (33 * k1) k (fun i => if i = 0 then 1 else 0)) (33 * k1 + k) 1))))] H := hP
          have hD : va_D A [(o 0, .inr (2, mFs o th p0 q0 r0 mu zz)), (o 5, .inl (dA 1, 2640, .inr (.inl (vp_updL (wrS fA (33 * k1) k (fun i => if i = 0 then 1 else 0)) (33 * k1 + k) 1))))] := hD
          have e9 : (vp_updL (wrS fA (33 * k1) k (fun i => if i = 0 then 1 else 0)) (33 * k1 + k) 1 : Nat → Int64) = (wrS fA (33 * k1) (k + 1) (fun i => if i = 0 then 1 else 0)) := wr_s rfl (by show _ = if k = 0 then (1 : Int64) else 0; rw [if_pos c_19])
          rw [e9] at hP hD; clear e9
          refine lv_iinc (v := nI (k + 1)) (lv' := [(2, .int (nI (k + 1))), (0, .ref (o 0)), (1, .int (nI k1))]) hx hb dX7_empties_28 hl (k := 2) rfl (by exact nI_add _ 1) (by decide) rfl (fun ls hl => ?_)
          refine lv_goto (tgt := 2) hx hb dX7_empties_31 (by decide) ?_
          exact ih_1 (k + 1) H locs ls (by omega) (by omega) (hP.sub [0, 1] rfl) (hD.sub [0, 1] (by decide) rfl) hS (lv_sub hl [1, 2, 0] rfl)
  exact loop_1 _ 0 s.heap [] ls (Nat.lt_succ_self _) (by omega) hP hD hS (lv_sub hl [1, 2, 0] rfl)
set_option maxHeartbeats 4000000 in
theorem x7_laysNumber {l : Launch} {dC : Nat → ClassId} {dI : Nat → Nat → Nat} {dA : Nat → ClassId} {s0 : State} {b0 : Addr} (Z : Z0 l dC dI dA s0 b0) (A : Nat → Prop) (sz : Nat) (hA : ∀ q : Nat, sz ≤ q → A q) (o : Nat → Nat) (th : Int32) (p0 q0 r0 : Nat) (mu : Int64) (zz : Nat → Int32) (fA fM : Nat → Int64) (k1 : Nat) (v : Int64) (hk1 : k1 < 80) : Met l yX7_laysNumber (ws_ yX7_laysNumber cX7_laysNumber 4 none) ({ frames := 2, cells := 0, slots := 0, locals := 120 } : Room) (gP [.ref (o 0), .int (nI k1), .long v] s0 A (fun H => H.size = sz ∧ va_P (dC, dI) vwCl [(o 0, .inr (2, mFs o th p0 q0 r0 mu zz)), (o 5, .inl (dA 1, 2640, .inr (.inl fA)))] H ∧ va_D A [(o 0, .inr (2, mFs o th p0 q0 r0 mu zz)), (o 5, .inl (dA 1, 2640, .inr (.inl fA)))])) (va_Qv (S := Nat → Int64) (fun u => Hold u k1 (numM v) ∧ Same fA u k1) (B1 (dC, dI) A (fun u => [(o 0, .inr (2, mFs o th p0 q0 r0 mu zz)), (o 5, .inl (dA 1, 2640, .inr (.inl u)))]) (fun _ _ => True)) A) 0 0 A := by
  refine Met.ofW (cc := cX7_laysNumber) (maxL := 4) (ret := none) (by decide) rfl ?_
  intro p e s m args below meth c s₁ B hml hv
  obtain ⟨hav, hG, hsz, hP, hD⟩ := hv
  have hx := B.exec
  have hb := B.bytes
  have hr := B.returns
  have hts := atoms_spec (ws := (ws_ yX7_laysNumber cX7_laysNumber 4 none)) B.pre
  have hts : ∀ w ∈ lw_all, w.before _ s = true := fun w h => hts w (List.mem_cons_of_mem _ h)
  have hown : s.vm.findClass RX7 = some m.cls := findClass_of_methodNamed B.named
  have hlocks := B.notSynchronized
  have hK := hG.K Z
  subst hsz
  have hS : va_S A s.heap s.heap [] := va_S.rf
  have hl := lv_entry ([.ref (o 0), .int (nI k1), .long v]) (n := 4) (Nat.le_of_ble_eq_true rfl)
  rw [show entryFrame m args 4 = entryFrame m ([.ref (o 0), .int (nI k1), .long v] : List Value).toArray 4 from by rw [hav], lg_entry_eq]
  generalize (lg_sl ([.ref (o 0), .int (nI k1), .long v]) ++ List.replicate (4 - (lg_sl ([.ref (o 0), .int (nI k1), .long v])).length) Slot.unset).toArray = ls at hl ⊢
  have hl : lv_has ls 4 [(0, .ref (o 0)), (1, .int (nI k1)), (2, .long v)] := hl
  generalize hQe : MQ below _ _ s _ _ _ = Q
  change W p l e ({ frames := 2, cells := 0, slots := 0, locals := 120 } : Room) s m args below meth c s.heap [] 0 0 Q (F0 m 0 ls [])
  refine lv_aload_n hx hb dX7_laysNumber_0 rfl (lv_at hl 0 rfl) ?_
  refine lv_iload_n hx hb dX7_laysNumber_1 rfl (lv_at hl 1 rfl) ?_
  have hF9 := va_free (wc := [(o 0, .inr (2, mFs o th p0 q0 r0 mu zz)), (o 5, .inl (dA 1, 2640, .inr (.inl fA)))]) hD hS (fun q h => hA q h) [0, 1] rfl
  refine c_v (wr := []) (va_runV (As := [.int (nI k1)]) (rest := []) ⟨hx, hb, hml, hown, hts⟩ (x7_empties Z (va_A [(o 0, .inr (2, mFs o th p0 q0 r0 mu zz)), (o 5, .inl (dA 1, 2640, .inr (.inl fA)))] s.heap.size) s.heap.size (fun q h => Or.inr h) o th p0 q0 r0 mu zz fA (fun _ => 0) k1 (by omega)) (cwV 1 hts (lw_V q2221 q2223 qs54 q107 q2224) rfl rfl rfl (by decide +kernel) ⟨Nat.le_of_ble_eq_true rfl, Nat.le_of_ble_eq_true rfl⟩) (gP_V (va_recv hK hP (ci := 2) (q0 := 0) rfl rfl) hG hS (fun q _ h => hF9 q h) ⟨rfl, (hP.sub (ws' := [(o 0, .inr (2, mFs o th p0 q0 r0 mu zz)), (o 5, .inl (dA 1, 2640, .inr (.inl fA)))]) [0, 1] rfl), (hD.sub (ws' := [(o 0, .inr (2, mFs o th p0 q0 r0 mu zz)), (o 5, .inl (dA 1, 2640, .inr (.inl fA)))]) [0, 1] (by decide) rfl).self⟩) rfl rfl hl.1 rfl (lv_room (Nat.le_of_ble_eq_true rfl)) dX7_laysNumber_2 ⟨by first | decide | omega, by first | decide | omega⟩) hP hD hS hA [0, 1] [] rfl rfl (by decide) (by decide) (fun u9 H locs hq hX hz hk hP hD hS => ?_)
  obtain ⟨fA_1, rfl⟩ : ∃ z, z = u9 := ⟨_, rfl⟩
  have hq_2 := hq
  have hP : va_P (dC, dI) vwCl [(o 0, .inr (2, mFs o th p0 q0 r0 mu zz)), (o 5, .inl (dA 1, 2640, .inr (.inl fA_1)))] H := hP
  have hD : va_D A [(o 0, .inr (2, mFs o th p0 q0 r0 mu zz)), (o 5, .inl (dA 1, 2640, .inr (.inl fA_1)))] := hD
  obtain ⟨hH_k_3, hS_k_3⟩ := hq_2
  refine lv_aload_n hx hb dX7_laysNumber_5 rfl (lv_at hl 0 rfl) ?_
  refine va_get (D := (dC, dI)) (ci := 2) (v := .ref (o 5)) (C := RX7) (T := TX7) (N := 27) hx hb hts in_X7 hown hK hP 0 rfl rfl 8 (by decide) (hts _ q2014) (fun _ h9 => h9) rfl dX7_laysNumber_6 ?_
  refine lv_bipush (v := nI 33) hx hb dX7_laysNumber_9 (by decide) ?_
  refine lv_iload_n hx hb dX7_laysNumber_11 rfl (lv_at hl 1 rfl) ?_
  refine lv_imul hx hb dX7_laysNumber_12 ?_
  refine e_i (y := nI (33 * k1)) (pk_mul _ _) ?_
  refine lv_iconst (v := nI 1) hx hb dX7_laysNumber_13 (by decide) ?_
  refine lv_iadd hx hb dX7_laysNumber_14 ?_
  refine e_i (y := nI (33 * k1 + 1)) (nI_add _ _) ?_
  refine lv_lload_n hx hb dX7_laysNumber_15 rfl (lv_at hl 2 rfl) ?_
  refine a_last hx hb hK hP hD hS 1 1 rfl rfl (by omega) (by omega) dX7_laysNumber_16 (fun H locs hP hD hS => ?_)
  have hP : va_P (dC, dI) vwCl [(o 0, .inr (2, mFs o th p0 q0 r0 mu zz)), (o 5, .inl (dA 1, 2640, .inr (.inl (vp_updL fA_1 (33 * k1 + 1) v))))] H := hP
  have hD : va_D A [(o 0, .inr (2, mFs o th p0 q0 r0 mu zz)), (o 5, .inl (dA 1, 2640, .inr (.inl (vp_updL fA_1 (33 * k1 + 1) v))))] := hD
  subst hQe
  exact W.vret hx hb hr (fun t ht hW => ⟨⟨_, rfl, ⟨num_hold hH_k_3, fun j hj => by rw [pk_uLn (by omega)]; exact hS_k_3 j hj⟩, B1_at ht (hP.sub [0, 1] rfl) (hD.sub [0, 1] (by decide) rfl) trivial⟩, hS.F ht⟩) hS.2.2 dX7_laysNumber_17
set_option maxHeartbeats 4000000 in
theorem x7_power {l : Launch} {dC : Nat → ClassId} {dI : Nat → Nat → Nat} {dA : Nat → ClassId} {s0 : State} {b0 : Addr} (Z : Z0 l dC dI dA s0 b0) (A : Nat → Prop) (sz : Nat) (hA : ∀ q : Nat, sz ≤ q → A q) (o : Nat → Nat) (th : Int32) (p0 q0 r0 : Nat) (mu : Int64) (zz : Nat → Int32) (fA fM : Nat → Int64) (Ms : Nat → MV) (t : Int32) (a : Int32) (x : Int32) (hn : p0 + q0 + r0 ≤ 5) (hR : ∀ k, k < 8 → Hold fA k (Ms k)) (sR : ∀ k, k < 8 → MSm (Ms k)) : Met l yX7_power (ws_ yX7_power cX7_power 6 (some .int)) ({ frames := 7, cells := 0, slots := 0, locals := 420 } : Room) (gP [.ref (o 0), .int t, .int a, .int x] s0 A (fun H => H.size = sz ∧ va_P (dC, dI) vwCl [(o 0, .inr (2, mFs o th p0 q0 r0 mu zz)), (o 5, .inl (dA 1, 2640, .inr (.inl fA))), (o 6, .inl (dA 1, 32, .inr (.inl fM)))] H ∧ va_D A [(o 0, .inr (2, mFs o th p0 q0 r0 mu zz)), (o 5, .inl (dA 1, 2640, .inr (.inl fA))), (o 6, .inl (dA 1, 32, .inr (.inl fM)))])) (va_Qi (S := (Nat → Int64) × (Nat → Int64) × Int64 × Int32) (fun r u => ModPost fA (rg t) (powX p0 q0 r0 Ms t a x) u.2.2.2 r u.1) (B1 (dC, dI) A (fun u => mC dA o u.2.2.2 p0 q0 r0 u.2.2.1 zz u.1 u.2.1) (fun _ _ => True)) A) 0 0 A := by
  refine Met.ofW (cc := cX7_power) (maxL := 6) (ret := (some .int)) (by decide) rfl ?_
  intro p e s m args below meth c s₁ B hml hv
  obtain ⟨hav, hG, hsz, hP, hD⟩ := hv
  have hx := B.exec
  have hb := B.bytes
  have hr := B.returns
  have hts := atoms_spec (ws := (ws_ yX7_power cX7_power 6 (some .int))) B.pre
  have hts : ∀ w ∈ lw_all, w.before _ s = true := fun w h => hts w (List.mem_cons_of_mem _ h)
  have hown : s.vm.findClass RX7 = some m.cls := findClass_of_methodNamed B.named
  have hlocks := B.notSynchronized
  have hK := hG.K Z
  subst hsz
  have hS : va_S A s.heap s.heap [] := va_S.rf
  have hl := lv_entry ([.ref (o 0), .int t, .int a, .int x]) (n := 6) (Nat.le_of_ble_eq_true rfl)
  rw [show entryFrame m args 6 = entryFrame m ([.ref (o 0), .int t, .int a, .int x] : List Value).toArray 6 from by rw [hav], lg_entry_eq]
  generalize (lg_sl ([.ref (o 0), .int t, .int a, .int x]) ++ List.replicate (6 - (lg_sl ([.ref (o 0), .int t, .int a, .int x])).length) Slot.unset).toArray = ls at hl ⊢
  have hl : lv_has ls 6 [(0, .ref (o 0)), (1, .int t), (2, .int a), (3, .int x)] := hl
  generalize hQe : MQ below _ _ s _ _ _ = Q
  change W p l e ({ frames := 7, cells := 0, slots := 0, locals := 420 } : Room) s m args below meth c s.heap [] 0 0 Q (F0 m 0 ls [])
  refine lv_iload_n hx hb dX7_power_0 rfl (lv_at hl 1 rfl) ?_
  refine s_i (va_runS (As := [.int t]) (rest := []) ⟨hx, hb, hml, hown, hts⟩ (x7_isRegister Z t) (va_cwS 1 hts (lw_S q2104 q2105 q107 q2106) rfl rfl rfl (by decide +kernel) ⟨Nat.le_of_ble_eq_true rfl, Nat.le_of_ble_eq_true rfl⟩) (gP_S hG hS (fun q _ h => h.elim) trivial) rfl rfl hl.1 rfl (lv_room (Nat.le_of_ble_eq_true rfl)) dX7_power_1 ⟨by first | decide | omega, by first | decide | omega⟩) ?_
  refine lv_if_eq (tgt := 14) hx hb dX7_power_4 (by decide) (fun c_4 => ?_) (fun c_4 => ?_)
  · have h_t := bI_0 c_4
    refine lv_aload_n hx hb dX7_power_14 rfl (lv_at hl 0 rfl) ?_
    refine lv_iconst (v := nI 1) hx hb dX7_power_15 (by decide) ?_
    have hF9 := va_free (wc := [(o 0, .inr (2, mFs o th p0 q0 r0 mu zz))]) hD hS (fun q h => hA q h) [0] rfl
    refine c_i (wr := [(o 5, .inl (dA 1, 2640, .inr (.inl fA))), (o 6, .inl (dA 1, 32, .inr (.inl fM)))]) (va_runV (As := [.int (nI 1)]) (rest := []) ⟨hx, hb, hml, hown, hts⟩ (x7_refuses Z (va_A [(o 0, .inr (2, mFs o th p0 q0 r0 mu zz))] s.heap.size) s.heap.size (fun q h => Or.inr h) o th p0 q0 r0 mu zz (nI 1)) (cwV 1 hts (lw_V q2100 q2102 qs34 q107 q2103) rfl rfl rfl (by decide +kernel) ⟨Nat.le_of_ble_eq_true rfl, Nat.le_of_ble_eq_true rfl⟩) (gP_V (va_recv hK hP (ci := 2) (q0 := 0) rfl rfl) hG hS (fun q _ h => hF9 q h) ⟨rfl, (hP.sub (ws' := [(o 0, .inr (2, mFs o th p0 q0 r0 mu zz))]) [0] rfl), (hD.sub (ws' := [(o 0, .inr (2, mFs o th p0 q0 r0 mu zz))]) [0] (by decide) rfl).self⟩) rfl rfl hl.1 rfl (lv_room (Nat.le_of_ble_eq_true rfl)) dX7_power_16 ⟨by first | decide | omega, by first | decide | omega⟩) hP hD hS hA [0] [1, 2] rfl rfl (by decide) (by decide) (fun r9 u9 H locs hq hX hz hk hP hD hS => ?_)
    obtain ⟨r_1, rfl⟩ : ∃ z, z = r9 := ⟨_, rfl⟩
    obtain rfl := hq
    have hP : va_P (dC, dI) vwCl [(o 5, .inl (dA 1, 2640, .inr (.inl fA))), (o 6, .inl (dA 1, 32, .inr (.inl fM))), (o 0, .inr (2, mFs o (nI 1) p0 q0 r0 mu zz))] H := hP
    have hD : va_D A [(o 5, .inl (dA 1, 2640, .inr (.inl fA))), (o 6, .inl (dA 1, 32, .inr (.inl fM))), (o 0, .inr (2, mFs o (nI 1) p0 q0 r0 mu zz))] := hD
    subst hQe
    exact W.iret (v := nI 0) hx hb hr (fun t ht hW => ⟨⟨_, (fA, fM, mu, nI 1), rfl, ModPost.mk0 (c := nI 1) (by simp [powX, rgB, optC, h_t]) (fun k9 hk9 i9 hi9 => rfl), B1_at ht (hP.sub [2, 0, 1] rfl) (hD.sub [2, 0, 1] (by decide) rfl) trivial⟩, hS.F ht⟩) hS.2.2 dX7_power_19
  · have h_t := bI_1 c_4
    obtain ⟨jt, hj_t, rfl⟩ := inB_nat (by decide) h_t
    refine lv_iload_n hx hb dX7_power_7 rfl (lv_at hl 2 rfl) ?_
    refine s_i (va_runS (As := [.int a]) (rest := []) ⟨hx, hb, hml, hown, hts⟩ (x7_isRegister Z a) (va_cwS 1 hts (lw_S q2104 q2105 q107 q2106) rfl rfl rfl (by decide +kernel) ⟨Nat.le_of_ble_eq_true rfl, Nat.le_of_ble_eq_true rfl⟩) (gP_S hG hS (fun q _ h => h.elim) trivial) rfl rfl hl.1 rfl (lv_room (Nat.le_of_ble_eq_true rfl)) dX7_power_8 ⟨by first | decide | omega, by first | decide | omega⟩) ?_
    refine lv_if_ne (tgt := 20) hx hb dX7_power_11 (by decide) (fun c_11 => ?_) (fun c_11 => ?_)
    · have h_a := bI_1 c_11
      obtain ⟨ja, hj_a, rfl⟩ := inB_nat (by decide) h_a
      refine lv_iload_n hx hb dX7_power_20 rfl (lv_at hl 3 rfl) ?_
      refine lv_iconst (v := nI 0) hx hb dX7_power_21 (by decide) ?_
      refine lv_bipush (v := nI 20) hx hb dX7_power_22 (by decide) ?_
      refine s_i (va_runS (As := [.int x, .int (nI 0), .int (nI 20)]) (rest := []) ⟨hx, hb, hml, hown, hts⟩ (x7_in Z x (nI 0) (nI 20)) (va_cwS 3 hts (lw_S q2097 q2098 q107 q2099) rfl rfl rfl (by decide +kernel) ⟨Nat.le_of_ble_eq_true rfl, Nat.le_of_ble_eq_true rfl⟩) (gP_S hG hS (fun q _ h => h.elim) trivial) rfl rfl hl.1 rfl (lv_room (Nat.le_of_ble_eq_true rfl)) dX7_power_24 ⟨by first | decide | omega, by first | decide | omega⟩) ?_
      refine lv_if_ne (tgt := 36) hx hb dX7_power_27 (by decide) (fun c_27 => ?_) (fun c_27 => ?_)
      · have h_x := bI_1 c_27
        obtain ⟨jx, hj_x, rfl⟩ := inB_nat (by decide) h_x
        refine lv_aload_n hx hb dX7_power_36 rfl (lv_at hl 0 rfl) ?_
        refine lv_bipush (v := nI 24) hx hb dX7_power_37 (by decide) ?_
        refine lv_lconst (v := 1) hx hb dX7_power_39 rfl ?_
        have hF9 := va_free (wc := [(o 0, .inr (2, mFs o th p0 q0 r0 mu zz)), (o 5, .inl (dA 1, 2640, .inr (.inl fA)))]) hD hS (fun q h => hA q h) [0, 1] rfl
        refine c_v (wr := [(o 6, .inl (dA 1, 32, .inr (.inl fM)))]) (va_runV (As := [.int (nI 24), .long 1]) (rest := []) ⟨hx, hb, hml, hown, hts⟩ (x7_laysNumber Z (va_A [(o 0, .inr (2, mFs o th p0 q0 r0 mu zz)), (o 5, .inl (dA 1, 2640, .inr (.inl fA)))] s.heap.size) s.heap.size (fun q h => Or.inr h) o th p0 q0 r0 mu zz fA fM 24 1 (by omega)) (cwV 2 hts (lw_V q2329 q2331 qs65 q107 q2332) rfl rfl rfl (by decide +kernel) ⟨Nat.le_of_ble_eq_true rfl, Nat.le_of_ble_eq_true rfl⟩) (gP_V (va_recv hK hP (ci := 2) (q0 := 0) rfl rfl) hG hS (fun q _ h => hF9 q h) ⟨rfl, (hP.sub (ws' := [(o 0, .inr (2, mFs o th p0 q0 r0 mu zz)), (o 5, .inl (dA 1, 2640, .inr (.inl fA)))]) [0, 1] rfl), (hD.sub (ws' := [(o 0, .inr (2, mFs o th p0 q0 r0 mu zz)), (o 5, .inl (dA 1, 2640, .inr (.inl fA)))]) [0, 1] (by decide) rfl).self⟩) rfl rfl hl.1 rfl (lv_room (Nat.le_of_ble_eq_true rfl)) dX7_power_40 ⟨by first | decide | omega, by first | decide | omega⟩) hP hD hS hA [0, 1] [2] rfl rfl (by decide) (by decide) (fun u9 H locs hq hX hz hk hP hD hS => ?_)
        obtain ⟨fA_2, rfl⟩ : ∃ z, z = u9 := ⟨_, rfl⟩
        have hq_3 := hq
        have hP : va_P (dC, dI) vwCl [(o 6, .inl (dA 1, 32, .inr (.inl fM))), (o 0, .inr (2, mFs o th p0 q0 r0 mu zz)), (o 5, .inl (dA 1, 2640, .inr (.inl fA_2)))] H := hP
        have hD : va_D A [(o 6, .inl (dA 1, 32, .inr (.inl fM))), (o 0, .inr (2, mFs o th p0 q0 r0 mu zz)), (o 5, .inl (dA 1, 2640, .inr (.inl fA_2)))] := hD
        obtain ⟨hH_k_4, hS_k_4⟩ := hq_3
        have hh_5 := hS_k_4.hold (j := jt) (by omega) (hR jt (by omega))
        have hh_6 := hS_k_4.hold (j := ja) (by omega) (hR ja (by omega))
        refine lv_iconst (v := nI 1) hx hb dX7_power_43 (by decide) ?_
        refine lv_istore (lv' := [(4, .int (nI 1)), (0, .ref (o 0)), (1, .int (nI jt)), (2, .int (nI ja)), (3, .int (nI jx))]) hx hb dX7_power_44 hl (by decide) rfl (fun ls hl => ?_)
        refine lv_iconst (v := nI 0) hx hb dX7_power_46 (by decide) ?_
        refine lv_istore (lv' := [(5, .int (nI 0)), (4, .int (nI 1)), (0, .ref (o 0)), (1, .int (nI jt)), (2, .int (nI ja)), (3, .int (nI jx))]) hx hb dX7_power_47 hl (by decide) rfl (fun ls hl => ?_)
        have loop_7 : ∀ (n9_7 : Nat) (k : Nat) (fB : Nat → Int64) (fN : Nat → Int64) (mv : Int64) (Pk : MV) (H : Heap) (locs : List Loc) (ls : Array Slot), jx - k < n9_7 → (k ≤ jx) → (powS p0 q0 r0 (Ms ja) k = some Pk) → (Hold fB 24 Pk) → (MSm Pk) → (Kp fA fB outH) → va_P (dC, dI) vwCl [(o 6, .inl (dA 1, 32, .inr (.inl fN))), (o 0, .inr (2, mFs o th p0 q0 r0 mv zz)), (o 5, .inl (dA 1, 2640, .inr (.inl fB)))] H → va_D A [(o 6, .inl (dA 1, 32, .inr (.inl fN))), (o 0, .inr (2, mFs o th p0 q0 r0 mv zz)), (o 5, .inl (dA 1, 2640, .inr (.inl fB)))] → va_S A s.heap H locs → lv_has ls 6 [(0, .ref (o 0)), (1, .int (nI jt)), (2, .int (nI ja)), (3, .int (nI jx)), (4, .int (nI 1)), (5, .int (nI k))] → W p l e ({ frames := 7, cells := 0, slots := 0, locals := 420 } : Room) s m args below meth c H locs 0 0 Q (F0 m 49 ls []) := by
          intro n9_7
          induction n9_7 with
          | zero => intro k fB fN mv Pk H locs ls hm_7; exact absurd hm_7 (Nat.not_lt_zero _)
          | succ n9_7 ih_7 =>
            intro k fB fN mv Pk H locs ls hm_7 hk9 hp9 hh9 sm9 kp9 hP hD hS hl
            refine lv_iload hx hb dX7_power_49 (lv_at hl 5 rfl) ?_
            refine lv_iload_n hx hb dX7_power_51 rfl (lv_at hl 3 rfl) ?_
            refine lv_icmp_ge (tgt := 78) hx hb dX7_power_52 (by decide) (fun c_52 => ?_) (fun c_52 => ?_)
            · have c_52 : jx ≤ k := (nI_leI (a := jx) (b := k) (by omega) (by omega)).mp c_52
              obtain rfl : jx = k := by omega
              refine lv_iload hx hb dX7_power_78 (lv_at hl 4 rfl) ?_
              refine lv_if_eq (tgt := 93) hx hb dX7_power_80 (by decide) (fun c_80 => ?_) (fun c_80 => ?_)
              · exact absurd c_80 (by decide)
              refine lv_aload_n hx hb dX7_power_83 rfl (lv_at hl 0 rfl) ?_
              refine lv_bipush (v := nI 24) hx hb dX7_power_84 (by decide) ?_
              refine lv_iload_n hx hb dX7_power_86 rfl (lv_at hl 1 rfl) ?_
              have hF9 := va_free (wc := [(o 0, .inr (2, mFs o th p0 q0 r0 mv zz)), (o 5, .inl (dA 1, 2640, .inr (.inl fB)))]) hD hS (fun q h => hA q h) [1, 2] rfl
              refine c_i (wr := [(o 6, .inl (dA 1, 32, .inr (.inl fN)))]) (va_runV (As := [.int (nI 24), .int (nI jt)]) (rest := []) ⟨hx, hb, hml, hown, hts⟩ (x7_gives Z (va_A [(o 0, .inr (2, mFs o th p0 q0 r0 mv zz)), (o 5, .inl (dA 1, 2640, .inr (.inl fB)))] H.size) H.size (fun q h => Or.inr h) o th p0 q0 r0 mv zz fB fN 24 jt (by omega) (by omega)) (cwV 2 hts (lw_V q2181 q2183 qs48 q107 q2184) rfl rfl rfl (by decide +kernel) ⟨Nat.le_of_ble_eq_true rfl, Nat.le_of_ble_eq_true rfl⟩) (gP_V (va_recv hK hP (ci := 2) (q0 := 1) rfl rfl) hG hS (fun q _ h => hF9 q h) ⟨rfl, (hP.sub (ws' := [(o 0, .inr (2, mFs o th p0 q0 r0 mv zz)), (o 5, .inl (dA 1, 2640, .inr (.inl fB)))]) [1, 2] rfl), (hD.sub (ws' := [(o 0, .inr (2, mFs o th p0 q0 r0 mv zz)), (o 5, .inl (dA 1, 2640, .inr (.inl fB)))]) [1, 2] (by decide) rfl).self⟩) rfl rfl hl.1 rfl (lv_room (Nat.le_of_ble_eq_true rfl)) dX7_power_87 ⟨by first | decide | omega, by first | decide | omega⟩) hP hD hS hA [1, 2] [0] rfl rfl (by decide) (by decide) (fun r9 u9 H locs hq hX hz hk hP hD hS => ?_)
              obtain ⟨r_8, rfl⟩ : ∃ z, z = r9 := ⟨_, rfl⟩
              obtain rfl := hq
              have hP : va_P (dC, dI) vwCl [(o 6, .inl (dA 1, 32, .inr (.inl fN))), (o 0, .inr (2, mFs o (nI 0) p0 q0 r0 mv zz)), (o 5, .inl (dA 1, 2640, .inr (.inl (cpS fB 24 jt))))] H := hP
              have hD : va_D A [(o 6, .inl (dA 1, 32, .inr (.inl fN))), (o 0, .inr (2, mFs o (nI 0) p0 q0 r0 mv zz)), (o 5, .inl (dA 1, 2640, .inr (.inl (cpS fB 24 jt))))] := hD
              have hc_10 := cpS_hold (t := jt) hh9
              have hs_11 := cpS_same (fA := fB) (k := 24) (t := jt)
              generalize cpS fB 24 jt = fA_9 at hP hD hc_10 hs_11 ⊢
              have hh_12 := hs_11.hold (j := 24) (by omega) hh9
              refine lv_goto (tgt := 98) hx hb dX7_power_90 (by decide) ?_
              subst hQe
              exact W.iret (v := nI (cntN (fun j => fA_9 (33 * jt + 1 + j)) 32)) hx hb hr (fun t ht hW => ⟨⟨_, (fA_9, fN, mv, nI 0), rfl, (by rw [rg_n (show jt < 8 by omega)]; exact ModPost.mk1 (P := Pk) (by simp [powX, rgB, optC, h_t, h_a, h_x, hp9, rg_n (show jt < 8 by omega), rg_n (show ja < 8 by omega), nI_clamp (show jt < 2 ^ 31 by omega), nI_clamp (show ja < 2 ^ 31 by omega), nI_clamp (show jx < 2 ^ 31 by omega)]) hc_10 (fun k9 hk9 i9 hi9 => by (try dsimp only [outH] at hk9); show fA_9 (33 * k9 + i9) = fA (33 * k9 + i9); rw [hs_11 _ (by omega), kp9 k9 (by omega) i9 hi9])), B1_at ht (hP.sub [1, 2, 0] rfl) (hD.sub [1, 2, 0] (by decide) rfl) trivial⟩, hS.F ht⟩) hS.2.2 dX7_power_98
            · have c_52 : ¬ jx ≤ k := fun h => c_52 ((nI_leI (a := jx) (b := k) (by omega) (by omega)).mpr h)
              refine lv_iload hx hb dX7_power_55 (lv_at hl 4 rfl) ?_
              refine lv_if_eq (tgt := 78) hx hb dX7_power_57 (by decide) (fun c_57 => ?_) (fun c_57 => ?_)
              · exact absurd c_57 (by decide)
              refine lv_aload_n hx hb dX7_power_60 rfl (lv_at hl 0 rfl) ?_
              refine lv_iconst (v := nI 2) hx hb dX7_power_61 (by decide) ?_
              refine lv_bipush (v := nI 24) hx hb dX7_power_62 (by decide) ?_
              refine lv_iload_n hx hb dX7_power_64 rfl (lv_at hl 2 rfl) ?_
              refine lv_bipush (v := nI 24) hx hb dX7_power_65 (by decide) ?_
              have hF9 := va_free (wc := [(o 0, .inr (2, mFs o th p0 q0 r0 mv zz)), (o 5, .inl (dA 1, 2640, .inr (.inl fB))), (o 6, .inl (dA 1, 32, .inr (.inl fN)))]) hD hS (fun q h => hA q h) [1, 2, 0] rfl
              refine c_i (wr := []) (va_runV (As := [.int (nI 2), .int (nI 24), .int (nI ja), .int (nI 24)]) (rest := []) ⟨hx, hb, hml, hown, hts⟩ (x7_multiplies Z (va_A [(o 0, .inr (2, mFs o th p0 q0 r0 mv zz)), (o 5, .inl (dA 1, 2640, .inr (.inl fB))), (o 6, .inl (dA 1, 32, .inr (.inl fN)))] H.size) H.size (fun q h => Or.inr h) o th p0 q0 r0 mv zz fB fN 2 24 ja 24 Pk (Ms ja) hn (by omega) (by omega) (by omega) (by omega) (by omega) hh9 (kp9.hold (k := ja) (by omega) (hR ja (by omega))) sm9 (sR ja (by omega))) (cwV 4 hts (lw_V q2168 q2170 qs46 q107 q2171) rfl rfl rfl (by decide +kernel) ⟨Nat.le_of_ble_eq_true rfl, Nat.le_of_ble_eq_true rfl⟩) (gP_V (va_recv hK hP (ci := 2) (q0 := 1) rfl rfl) hG hS (fun q _ h => hF9 q h) ⟨rfl, (hP.sub (ws' := [(o 0, .inr (2, mFs o th p0 q0 r0 mv zz)), (o 5, .inl (dA 1, 2640, .inr (.inl fB))), (o 6, .inl (dA 1, 32, .inr (.inl fN)))]) [1, 2, 0] rfl), (hD.sub (ws' := [(o 0, .inr (2, mFs o th p0 q0 r0 mv zz)), (o 5, .inl (dA 1, 2640, .inr (.inl fB))), (o 6, .inl (dA 1, 32, .inr (.inl fN)))]) [1, 2, 0] (by decide) rfl).self⟩) rfl rfl hl.1 rfl (lv_room (Nat.le_of_ble_eq_true rfl)) dX7_power_67 ⟨by first | decide | omega, by first | decide | omega⟩) hP hD hS hA [1, 2, 0] [] rfl rfl (by decide) (by decide) (fun r9 u9 H locs hq hX hz hk hP hD hS => ?_)
              obtain ⟨fA_13, fM_14, mu_15⟩ := u9
              obtain ⟨r_16, rfl⟩ : ∃ z, z = r9 := ⟨_, rfl⟩
              have hq_17 := hq
              try dsimp only at hq_17
              have hP : va_P (dC, dI) vwCl [(o 0, .inr (2, mFs o th p0 q0 r0 mu_15 zz)), (o 5, .inl (dA 1, 2640, .inr (.inl fA_13))), (o 6, .inl (dA 1, 32, .inr (.inl fM_14)))] H := hP
              have hD : va_D A [(o 0, .inr (2, mFs o th p0 q0 r0 mu_15 zz)), (o 5, .inl (dA 1, 2640, .inr (.inl fA_13))), (o 6, .inl (dA 1, 32, .inr (.inl fM_14)))] := hD
              rcases hq_17.cases with ⟨P_18, e_18, rfl, hH_18, hS_18⟩ | ⟨e_18, rfl, hE_18⟩
              · have sm_19 : MSm P_18 := mulS_sm sm9 (sR ja (by omega)) e_18
                have hh_20 := hS_18.hold (j := ja) (by omega) (kp9.hold (k := ja) (by omega) (hR ja (by omega)))
                refine lv_istore (lv' := [(4, .int (nI 1)), (0, .ref (o 0)), (1, .int (nI jt)), (2, .int (nI ja)), (3, .int (nI jx)), (5, .int (nI k))]) hx hb dX7_power_70 hl (by decide) rfl (fun ls hl => ?_)
                refine lv_iinc (v := nI (k + 1)) (lv' := [(5, .int (nI (k + 1))), (4, .int (nI 1)), (0, .ref (o 0)), (1, .int (nI jt)), (2, .int (nI ja)), (3, .int (nI jx))]) hx hb dX7_power_72 hl (k := 5) rfl (by exact nI_add _ 1) (by decide) rfl (fun ls hl => ?_)
                refine lv_goto (tgt := 49) hx hb dX7_power_75 (by decide) ?_
                exact ih_7 (k + 1) fA_13 fM_14 mu_15 P_18 H locs ls (by omega) (by omega) (by show (match powS p0 q0 r0 (Ms ja) k with | none => none | some P => mulS 2 p0 q0 r0 P (Ms ja)) = _; rw [hp9]; exact e_18) hH_18 sm_19 (fun k9 hk9 i9 hi9 => by (try dsimp only [outH] at hk9); show fA_13 (33 * k9 + i9) = fA (33 * k9 + i9); rw [hS_18 _ (by omega), kp9 k9 (by omega) i9 hi9]) (hP.sub [2, 0, 1] rfl) (hD.sub [2, 0, 1] (by decide) rfl) hS (lv_sub hl [2, 3, 4, 5, 1, 0] rfl)
              · have hh_21 : Hold fA_13 24 Pk := by rw [hE_18]; exact hh9
                have hh_22 : Hold fA_13 ja (Ms ja) := by rw [hE_18]; exact (kp9.hold (k := ja) (by omega) (hR ja (by omega)))
                refine lv_istore (lv' := [(4, .int (nI 0)), (0, .ref (o 0)), (1, .int (nI jt)), (2, .int (nI ja)), (3, .int (nI jx)), (5, .int (nI k))]) hx hb dX7_power_70 hl (by decide) rfl (fun ls hl => ?_)
                refine lv_iinc (v := nI (k + 1)) (lv' := [(5, .int (nI (k + 1))), (4, .int (nI 0)), (0, .ref (o 0)), (1, .int (nI jt)), (2, .int (nI ja)), (3, .int (nI jx))]) hx hb dX7_power_72 hl (k := 5) rfl (by exact nI_add _ 1) (by decide) rfl (fun ls hl => ?_)
                refine lv_goto (tgt := 49) hx hb dX7_power_75 (by decide) ?_
                refine lv_iload hx hb dX7_power_49 (lv_at hl 0 rfl) ?_
                refine lv_iload_n hx hb dX7_power_51 rfl (lv_at hl 5 rfl) ?_
                refine lv_icmp_ge (tgt := 78) hx hb dX7_power_52 (by decide) (fun c_52 => ?_) (fun c_52 => ?_)
                · have c_52 : jx ≤ (k + 1) := (nI_leI (a := jx) (b := (k + 1)) (by omega) (by omega)).mp c_52
                  refine lv_iload hx hb dX7_power_78 (lv_at hl 1 rfl) ?_
                  refine lv_if_eq (tgt := 93) hx hb dX7_power_80 (by decide) (fun c_80 => ?_) (fun c_80 => ?_)
                  rotate_left
                  · exact absurd (by decide) c_80
                  refine lv_aload_n hx hb dX7_power_93 rfl (lv_at hl 2 rfl) ?_
                  refine lv_iconst (v := nI 3) hx hb dX7_power_94 (by decide) ?_
                  have hF9 := va_free (wc := [(o 0, .inr (2, mFs o th p0 q0 r0 mu_15 zz))]) hD hS (fun q h => hA q h) [0] rfl
                  refine c_i (wr := [(o 5, .inl (dA 1, 2640, .inr (.inl fA_13))), (o 6, .inl (dA 1, 32, .inr (.inl fM_14)))]) (va_runV (As := [.int (nI 3)]) (rest := []) ⟨hx, hb, hml, hown, hts⟩ (x7_refuses Z (va_A [(o 0, .inr (2, mFs o th p0 q0 r0 mu_15 zz))] H.size) H.size (fun q h => Or.inr h) o th p0 q0 r0 mu_15 zz (nI 3)) (cwV 1 hts (lw_V q2100 q2102 qs34 q107 q2103) rfl rfl rfl (by decide +kernel) ⟨Nat.le_of_ble_eq_true rfl, Nat.le_of_ble_eq_true rfl⟩) (gP_V (va_recv hK hP (ci := 2) (q0 := 0) rfl rfl) hG hS (fun q _ h => hF9 q h) ⟨rfl, (hP.sub (ws' := [(o 0, .inr (2, mFs o th p0 q0 r0 mu_15 zz))]) [0] rfl), (hD.sub (ws' := [(o 0, .inr (2, mFs o th p0 q0 r0 mu_15 zz))]) [0] (by decide) rfl).self⟩) rfl rfl hl.1 rfl (lv_room (Nat.le_of_ble_eq_true rfl)) dX7_power_95 ⟨by first | decide | omega, by first | decide | omega⟩) hP hD hS hA [0] [1, 2] rfl rfl (by decide) (by decide) (fun r9 u9 H locs hq hX hz hk hP hD hS => ?_)
                  obtain ⟨r_23, rfl⟩ : ∃ z, z = r9 := ⟨_, rfl⟩
                  obtain rfl := hq
                  have hP : va_P (dC, dI) vwCl [(o 5, .inl (dA 1, 2640, .inr (.inl fA_13))), (o 6, .inl (dA 1, 32, .inr (.inl fM_14))), (o 0, .inr (2, mFs o (nI 3) p0 q0 r0 mu_15 zz))] H := hP
                  have hD : va_D A [(o 5, .inl (dA 1, 2640, .inr (.inl fA_13))), (o 6, .inl (dA 1, 32, .inr (.inl fM_14))), (o 0, .inr (2, mFs o (nI 3) p0 q0 r0 mu_15 zz))] := hD
                  subst hQe
                  exact W.iret (v := nI 0) hx hb hr (fun t ht hW => ⟨⟨_, (fA_13, fM_14, mu_15, nI 3), rfl, ModPost.mk0 (c := nI 3) (by have hz9 := powS_none (m := jx) (show powS p0 q0 r0 (Ms ja) (k + 1) = none from by (show (match powS p0 q0 r0 (Ms ja) k with | none => none | some P => mulS 2 p0 q0 r0 P (Ms ja)) = _; rw [hp9]; exact e_18)) (by omega); simp [powX, rgB, optC, h_t, h_a, h_x, hz9, rg_n (show ja < 8 by omega), nI_clamp (show jx < 2 ^ 31 by omega)]) (fun k9 hk9 i9 hi9 => by (try dsimp only [outH] at hk9); show fA_13 (33 * k9 + i9) = fA (33 * k9 + i9); rw [hE_18, kp9 k9 (by omega) i9 hi9]), B1_at ht (hP.sub [2, 0, 1] rfl) (hD.sub [2, 0, 1] (by decide) rfl) trivial⟩, hS.F ht⟩) hS.2.2 dX7_power_98
                · have c_52 : ¬ jx ≤ (k + 1) := fun h => c_52 ((nI_leI (a := jx) (b := (k + 1)) (by omega) (by omega)).mpr h)
                  refine lv_iload hx hb dX7_power_55 (lv_at hl 1 rfl) ?_
                  refine lv_if_eq (tgt := 78) hx hb dX7_power_57 (by decide) (fun c_57 => ?_) (fun c_57 => ?_)
                  rotate_left
                  · exact absurd (by decide) c_57
                  refine lv_iload hx hb dX7_power_78 (lv_at hl 1 rfl) ?_
                  refine lv_if_eq (tgt := 93) hx hb dX7_power_80 (by decide) (fun c_80 => ?_) (fun c_80 => ?_)
                  rotate_left
                  · exact absurd (by decide) c_80
                  refine lv_aload_n hx hb dX7_power_93 rfl (lv_at hl 2 rfl) ?_
                  refine lv_iconst (v := nI 3) hx hb dX7_power_94 (by decide) ?_
                  have hF9 := va_free (wc := [(o 0, .inr (2, mFs o th p0 q0 r0 mu_15 zz))]) hD hS (fun q h => hA q h) [0] rfl
                  refine c_i (wr := [(o 5, .inl (dA 1, 2640, .inr (.inl fA_13))), (o 6, .inl (dA 1, 32, .inr (.inl fM_14)))]) (va_runV (As := [.int (nI 3)]) (rest := []) ⟨hx, hb, hml, hown, hts⟩ (x7_refuses Z (va_A [(o 0, .inr (2, mFs o th p0 q0 r0 mu_15 zz))] H.size) H.size (fun q h => Or.inr h) o th p0 q0 r0 mu_15 zz (nI 3)) (cwV 1 hts (lw_V q2100 q2102 qs34 q107 q2103) rfl rfl rfl (by decide +kernel) ⟨Nat.le_of_ble_eq_true rfl, Nat.le_of_ble_eq_true rfl⟩) (gP_V (va_recv hK hP (ci := 2) (q0 := 0) rfl rfl) hG hS (fun q _ h => hF9 q h) ⟨rfl, (hP.sub (ws' := [(o 0, .inr (2, mFs o th p0 q0 r0 mu_15 zz))]) [0] rfl), (hD.sub (ws' := [(o 0, .inr (2, mFs o th p0 q0 r0 mu_15 zz))]) [0] (by decide) rfl).self⟩) rfl rfl hl.1 rfl (lv_room (Nat.le_of_ble_eq_true rfl)) dX7_power_95 ⟨by first | decide | omega, by first | decide | omega⟩) hP hD hS hA [0] [1, 2] rfl rfl (by decide) (by decide) (fun r9 u9 H locs hq hX hz hk hP hD hS => ?_)
                  obtain ⟨r_24, rfl⟩ : ∃ z, z = r9 := ⟨_, rfl⟩
                  obtain rfl := hq
                  have hP : va_P (dC, dI) vwCl [(o 5, .inl (dA 1, 2640, .inr (.inl fA_13))), (o 6, .inl (dA 1, 32, .inr (.inl fM_14))), (o 0, .inr (2, mFs o (nI 3) p0 q0 r0 mu_15 zz))] H := hP
                  have hD : va_D A [(o 5, .inl (dA 1, 2640, .inr (.inl fA_13))), (o 6, .inl (dA 1, 32, .inr (.inl fM_14))), (o 0, .inr (2, mFs o (nI 3) p0 q0 r0 mu_15 zz))] := hD
                  subst hQe
                  exact W.iret (v := nI 0) hx hb hr (fun t ht hW => ⟨⟨_, (fA_13, fM_14, mu_15, nI 3), rfl, ModPost.mk0 (c := nI 3) (by have hz9 := powS_none (m := jx) (show powS p0 q0 r0 (Ms ja) (k + 1) = none from by (show (match powS p0 q0 r0 (Ms ja) k with | none => none | some P => mulS 2 p0 q0 r0 P (Ms ja)) = _; rw [hp9]; exact e_18)) (by omega); simp [powX, rgB, optC, h_t, h_a, h_x, hz9, rg_n (show ja < 8 by omega), nI_clamp (show jx < 2 ^ 31 by omega)]) (fun k9 hk9 i9 hi9 => by (try dsimp only [outH] at hk9); show fA_13 (33 * k9 + i9) = fA (33 * k9 + i9); rw [hE_18, kp9 k9 (by omega) i9 hi9]), B1_at ht (hP.sub [2, 0, 1] rfl) (hD.sub [2, 0, 1] (by decide) rfl) trivial⟩, hS.F ht⟩) hS.2.2 dX7_power_98
        exact loop_7 _ 0 fA_2 fM mu (numM 1) H locs ls (Nat.lt_succ_self _) (Nat.zero_le _) rfl hH_k_4 (numM_sm (by unfold sm8; decide)) (fun k9 hk9 i9 hi9 => by (try dsimp only [outH] at hk9); show fA_2 (33 * k9 + i9) = fA (33 * k9 + i9); rw [hS_k_4 _ (by omega)]) hP hD hS (lv_sub hl [2, 3, 4, 5, 1, 0] rfl)
      · have h_x := bI_0 c_27
        refine lv_aload_n hx hb dX7_power_30 rfl (lv_at hl 0 rfl) ?_
        refine lv_iconst (v := nI 2) hx hb dX7_power_31 (by decide) ?_
        have hF9 := va_free (wc := [(o 0, .inr (2, mFs o th p0 q0 r0 mu zz))]) hD hS (fun q h => hA q h) [0] rfl
        refine c_i (wr := [(o 5, .inl (dA 1, 2640, .inr (.inl fA))), (o 6, .inl (dA 1, 32, .inr (.inl fM)))]) (va_runV (As := [.int (nI 2)]) (rest := []) ⟨hx, hb, hml, hown, hts⟩ (x7_refuses Z (va_A [(o 0, .inr (2, mFs o th p0 q0 r0 mu zz))] s.heap.size) s.heap.size (fun q h => Or.inr h) o th p0 q0 r0 mu zz (nI 2)) (cwV 1 hts (lw_V q2100 q2102 qs34 q107 q2103) rfl rfl rfl (by decide +kernel) ⟨Nat.le_of_ble_eq_true rfl, Nat.le_of_ble_eq_true rfl⟩) (gP_V (va_recv hK hP (ci := 2) (q0 := 0) rfl rfl) hG hS (fun q _ h => hF9 q h) ⟨rfl, (hP.sub (ws' := [(o 0, .inr (2, mFs o th p0 q0 r0 mu zz))]) [0] rfl), (hD.sub (ws' := [(o 0, .inr (2, mFs o th p0 q0 r0 mu zz))]) [0] (by decide) rfl).self⟩) rfl rfl hl.1 rfl (lv_room (Nat.le_of_ble_eq_true rfl)) dX7_power_32 ⟨by first | decide | omega, by first | decide | omega⟩) hP hD hS hA [0] [1, 2] rfl rfl (by decide) (by decide) (fun r9 u9 H locs hq hX hz hk hP hD hS => ?_)
        obtain ⟨r_25, rfl⟩ : ∃ z, z = r9 := ⟨_, rfl⟩
        obtain rfl := hq
        have hP : va_P (dC, dI) vwCl [(o 5, .inl (dA 1, 2640, .inr (.inl fA))), (o 6, .inl (dA 1, 32, .inr (.inl fM))), (o 0, .inr (2, mFs o (nI 2) p0 q0 r0 mu zz))] H := hP
        have hD : va_D A [(o 5, .inl (dA 1, 2640, .inr (.inl fA))), (o 6, .inl (dA 1, 32, .inr (.inl fM))), (o 0, .inr (2, mFs o (nI 2) p0 q0 r0 mu zz))] := hD
        subst hQe
        exact W.iret (v := nI 0) hx hb hr (fun t ht hW => ⟨⟨_, (fA, fM, mu, nI 2), rfl, ModPost.mk0 (c := nI 2) (by simp [powX, rgB, optC, h_t, h_a, h_x, rg_n (show jt < 8 by omega), rg_n (show ja < 8 by omega), nI_clamp (show jt < 2 ^ 31 by omega), nI_clamp (show ja < 2 ^ 31 by omega)]) (fun k9 hk9 i9 hi9 => rfl), B1_at ht (hP.sub [2, 0, 1] rfl) (hD.sub [2, 0, 1] (by decide) rfl) trivial⟩, hS.F ht⟩) hS.2.2 dX7_power_35
    · have h_a := bI_0 c_11
      refine lv_aload_n hx hb dX7_power_14 rfl (lv_at hl 0 rfl) ?_
      refine lv_iconst (v := nI 1) hx hb dX7_power_15 (by decide) ?_
      have hF9 := va_free (wc := [(o 0, .inr (2, mFs o th p0 q0 r0 mu zz))]) hD hS (fun q h => hA q h) [0] rfl
      refine c_i (wr := [(o 5, .inl (dA 1, 2640, .inr (.inl fA))), (o 6, .inl (dA 1, 32, .inr (.inl fM)))]) (va_runV (As := [.int (nI 1)]) (rest := []) ⟨hx, hb, hml, hown, hts⟩ (x7_refuses Z (va_A [(o 0, .inr (2, mFs o th p0 q0 r0 mu zz))] s.heap.size) s.heap.size (fun q h => Or.inr h) o th p0 q0 r0 mu zz (nI 1)) (cwV 1 hts (lw_V q2100 q2102 qs34 q107 q2103) rfl rfl rfl (by decide +kernel) ⟨Nat.le_of_ble_eq_true rfl, Nat.le_of_ble_eq_true rfl⟩) (gP_V (va_recv hK hP (ci := 2) (q0 := 0) rfl rfl) hG hS (fun q _ h => hF9 q h) ⟨rfl, (hP.sub (ws' := [(o 0, .inr (2, mFs o th p0 q0 r0 mu zz))]) [0] rfl), (hD.sub (ws' := [(o 0, .inr (2, mFs o th p0 q0 r0 mu zz))]) [0] (by decide) rfl).self⟩) rfl rfl hl.1 rfl (lv_room (Nat.le_of_ble_eq_true rfl)) dX7_power_16 ⟨by first | decide | omega, by first | decide | omega⟩) hP hD hS hA [0] [1, 2] rfl rfl (by decide) (by decide) (fun r9 u9 H locs hq hX hz hk hP hD hS => ?_)
      obtain ⟨r_26, rfl⟩ : ∃ z, z = r9 := ⟨_, rfl⟩
      obtain rfl := hq
      have hP : va_P (dC, dI) vwCl [(o 5, .inl (dA 1, 2640, .inr (.inl fA))), (o 6, .inl (dA 1, 32, .inr (.inl fM))), (o 0, .inr (2, mFs o (nI 1) p0 q0 r0 mu zz))] H := hP
      have hD : va_D A [(o 5, .inl (dA 1, 2640, .inr (.inl fA))), (o 6, .inl (dA 1, 32, .inr (.inl fM))), (o 0, .inr (2, mFs o (nI 1) p0 q0 r0 mu zz))] := hD
      subst hQe
      exact W.iret (v := nI 0) hx hb hr (fun t ht hW => ⟨⟨_, (fA, fM, mu, nI 1), rfl, ModPost.mk0 (c := nI 1) (by simp [powX, rgB, optC, h_t, h_a, rg_n (show jt < 8 by omega), nI_clamp (show jt < 2 ^ 31 by omega)]) (fun k9 hk9 i9 hi9 => rfl), B1_at ht (hP.sub [2, 0, 1] rfl) (hD.sub [2, 0, 1] (by decide) rfl) trivial⟩, hS.F ht⟩) hS.2.2 dX7_power_19
set_option maxHeartbeats 4000000 in
theorem x7_project {l : Launch} {dC : Nat → ClassId} {dI : Nat → Nat → Nat} {dA : Nat → ClassId} {s0 : State} {b0 : Addr} (Z : Z0 l dC dI dA s0 b0) (A : Nat → Prop) (sz : Nat) (hA : ∀ q : Nat, sz ≤ q → A q) (o : Nat → Nat) (th : Int32) (p0 q0 r0 : Nat) (mu : Int64) (zz : Nat → Int32) (fA fM : Nat → Int64) (Ms : Nat → MV) (t : Int32) (a : Int32) (b : Int32) (hn : p0 + q0 + r0 ≤ 5) (hR : ∀ k, k < 8 → Hold fA k (Ms k)) (sR : ∀ k, k < 8 → MSm (Ms k)) : Met l yX7_project (ws_ yX7_project cX7_project 5 (some .int)) ({ frames := 8, cells := 0, slots := 0, locals := 480 } : Room) (gP [.ref (o 0), .int t, .int a, .int b] s0 A (fun H => H.size = sz ∧ va_P (dC, dI) vwCl [(o 0, .inr (2, mFs o th p0 q0 r0 mu zz)), (o 5, .inl (dA 1, 2640, .inr (.inl fA))), (o 6, .inl (dA 1, 32, .inr (.inl fM)))] H ∧ va_D A [(o 0, .inr (2, mFs o th p0 q0 r0 mu zz)), (o 5, .inl (dA 1, 2640, .inr (.inl fA))), (o 6, .inl (dA 1, 32, .inr (.inl fM)))])) (va_Qi (S := (Nat → Int64) × (Nat → Int64) × Int64 × Int32) (fun r u => ModPost fA (rg t) (prjX p0 q0 r0 Ms t a b) u.2.2.2 r u.1) (B1 (dC, dI) A (fun u => mC dA o u.2.2.2 p0 q0 r0 u.2.2.1 zz u.1 u.2.1) (fun _ _ => True)) A) 0 0 A := by
  refine Met.ofW (cc := cX7_project) (maxL := 5) (ret := (some .int)) (by decide) rfl ?_
  intro p e s m args below meth c s₁ B hml hv
  obtain ⟨hav, hG, hsz, hP, hD⟩ := hv
  have hx := B.exec
  have hb := B.bytes
  have hr := B.returns
  have hts := atoms_spec (ws := (ws_ yX7_project cX7_project 5 (some .int))) B.pre
  have hts : ∀ w ∈ lw_all, w.before _ s = true := fun w h => hts w (List.mem_cons_of_mem _ h)
  have hown : s.vm.findClass RX7 = some m.cls := findClass_of_methodNamed B.named
  have hlocks := B.notSynchronized
  have hK := hG.K Z
  subst hsz
  have hS : va_S A s.heap s.heap [] := va_S.rf
  have hl := lv_entry ([.ref (o 0), .int t, .int a, .int b]) (n := 5) (Nat.le_of_ble_eq_true rfl)
  rw [show entryFrame m args 5 = entryFrame m ([.ref (o 0), .int t, .int a, .int b] : List Value).toArray 5 from by rw [hav], lg_entry_eq]
  generalize (lg_sl ([.ref (o 0), .int t, .int a, .int b]) ++ List.replicate (5 - (lg_sl ([.ref (o 0), .int t, .int a, .int b])).length) Slot.unset).toArray = ls at hl ⊢
  have hl : lv_has ls 5 [(0, .ref (o 0)), (1, .int t), (2, .int a), (3, .int b)] := hl
  generalize hQe : MQ below _ _ s _ _ _ = Q
  change W p l e ({ frames := 8, cells := 0, slots := 0, locals := 480 } : Room) s m args below meth c s.heap [] 0 0 Q (F0 m 0 ls [])
  refine lv_iload_n hx hb dX7_project_0 rfl (lv_at hl 1 rfl) ?_
  refine s_i (va_runS (As := [.int t]) (rest := []) ⟨hx, hb, hml, hown, hts⟩ (x7_isRegister Z t) (va_cwS 1 hts (lw_S q2104 q2105 q107 q2106) rfl rfl rfl (by decide +kernel) ⟨Nat.le_of_ble_eq_true rfl, Nat.le_of_ble_eq_true rfl⟩) (gP_S hG hS (fun q _ h => h.elim) trivial) rfl rfl hl.1 rfl (lv_room (Nat.le_of_ble_eq_true rfl)) dX7_project_1 ⟨by first | decide | omega, by first | decide | omega⟩) ?_
  refine lv_if_eq (tgt := 21) hx hb dX7_project_4 (by decide) (fun c_4 => ?_) (fun c_4 => ?_)
  · have h_t := bI_0 c_4
    refine lv_aload_n hx hb dX7_project_21 rfl (lv_at hl 0 rfl) ?_
    refine lv_iconst (v := nI 1) hx hb dX7_project_22 (by decide) ?_
    have hF9 := va_free (wc := [(o 0, .inr (2, mFs o th p0 q0 r0 mu zz))]) hD hS (fun q h => hA q h) [0] rfl
    refine c_i (wr := [(o 5, .inl (dA 1, 2640, .inr (.inl fA))), (o 6, .inl (dA 1, 32, .inr (.inl fM)))]) (va_runV (As := [.int (nI 1)]) (rest := []) ⟨hx, hb, hml, hown, hts⟩ (x7_refuses Z (va_A [(o 0, .inr (2, mFs o th p0 q0 r0 mu zz))] s.heap.size) s.heap.size (fun q h => Or.inr h) o th p0 q0 r0 mu zz (nI 1)) (cwV 1 hts (lw_V q2100 q2102 qs34 q107 q2103) rfl rfl rfl (by decide +kernel) ⟨Nat.le_of_ble_eq_true rfl, Nat.le_of_ble_eq_true rfl⟩) (gP_V (va_recv hK hP (ci := 2) (q0 := 0) rfl rfl) hG hS (fun q _ h => hF9 q h) ⟨rfl, (hP.sub (ws' := [(o 0, .inr (2, mFs o th p0 q0 r0 mu zz))]) [0] rfl), (hD.sub (ws' := [(o 0, .inr (2, mFs o th p0 q0 r0 mu zz))]) [0] (by decide) rfl).self⟩) rfl rfl hl.1 rfl (lv_room (Nat.le_of_ble_eq_true rfl)) dX7_project_23 ⟨by first | decide | omega, by first | decide | omega⟩) hP hD hS hA [0] [1, 2] rfl rfl (by decide) (by decide) (fun r9 u9 H locs hq hX hz hk hP hD hS => ?_)
    obtain ⟨r_1, rfl⟩ : ∃ z, z = r9 := ⟨_, rfl⟩
    obtain rfl := hq
    have hP : va_P (dC, dI) vwCl [(o 5, .inl (dA 1, 2640, .inr (.inl fA))), (o 6, .inl (dA 1, 32, .inr (.inl fM))), (o 0, .inr (2, mFs o (nI 1) p0 q0 r0 mu zz))] H := hP
    have hD : va_D A [(o 5, .inl (dA 1, 2640, .inr (.inl fA))), (o 6, .inl (dA 1, 32, .inr (.inl fM))), (o 0, .inr (2, mFs o (nI 1) p0 q0 r0 mu zz))] := hD
    subst hQe
    exact W.iret (v := nI 0) hx hb hr (fun t ht hW => ⟨⟨_, (fA, fM, mu, nI 1), rfl, ModPost.mk0 (c := nI 1) (by simp [prjX, rgB, optC, h_t]) (fun k9 hk9 i9 hi9 => rfl), B1_at ht (hP.sub [2, 0, 1] rfl) (hD.sub [2, 0, 1] (by decide) rfl) trivial⟩, hS.F ht⟩) hS.2.2 dX7_project_26
  · have h_t := bI_1 c_4
    obtain ⟨jt, hj_t, rfl⟩ := inB_nat (by decide) h_t
    refine lv_iload_n hx hb dX7_project_7 rfl (lv_at hl 2 rfl) ?_
    refine s_i (va_runS (As := [.int a]) (rest := []) ⟨hx, hb, hml, hown, hts⟩ (x7_isRegister Z a) (va_cwS 1 hts (lw_S q2104 q2105 q107 q2106) rfl rfl rfl (by decide +kernel) ⟨Nat.le_of_ble_eq_true rfl, Nat.le_of_ble_eq_true rfl⟩) (gP_S hG hS (fun q _ h => h.elim) trivial) rfl rfl hl.1 rfl (lv_room (Nat.le_of_ble_eq_true rfl)) dX7_project_8 ⟨by first | decide | omega, by first | decide | omega⟩) ?_
    refine lv_if_eq (tgt := 21) hx hb dX7_project_11 (by decide) (fun c_11 => ?_) (fun c_11 => ?_)
    · have h_a := bI_0 c_11
      refine lv_aload_n hx hb dX7_project_21 rfl (lv_at hl 0 rfl) ?_
      refine lv_iconst (v := nI 1) hx hb dX7_project_22 (by decide) ?_
      have hF9 := va_free (wc := [(o 0, .inr (2, mFs o th p0 q0 r0 mu zz))]) hD hS (fun q h => hA q h) [0] rfl
      refine c_i (wr := [(o 5, .inl (dA 1, 2640, .inr (.inl fA))), (o 6, .inl (dA 1, 32, .inr (.inl fM)))]) (va_runV (As := [.int (nI 1)]) (rest := []) ⟨hx, hb, hml, hown, hts⟩ (x7_refuses Z (va_A [(o 0, .inr (2, mFs o th p0 q0 r0 mu zz))] s.heap.size) s.heap.size (fun q h => Or.inr h) o th p0 q0 r0 mu zz (nI 1)) (cwV 1 hts (lw_V q2100 q2102 qs34 q107 q2103) rfl rfl rfl (by decide +kernel) ⟨Nat.le_of_ble_eq_true rfl, Nat.le_of_ble_eq_true rfl⟩) (gP_V (va_recv hK hP (ci := 2) (q0 := 0) rfl rfl) hG hS (fun q _ h => hF9 q h) ⟨rfl, (hP.sub (ws' := [(o 0, .inr (2, mFs o th p0 q0 r0 mu zz))]) [0] rfl), (hD.sub (ws' := [(o 0, .inr (2, mFs o th p0 q0 r0 mu zz))]) [0] (by decide) rfl).self⟩) rfl rfl hl.1 rfl (lv_room (Nat.le_of_ble_eq_true rfl)) dX7_project_23 ⟨by first | decide | omega, by first | decide | omega⟩) hP hD hS hA [0] [1, 2] rfl rfl (by decide) (by decide) (fun r9 u9 H locs hq hX hz hk hP hD hS => ?_)
      obtain ⟨r_2, rfl⟩ : ∃ z, z = r9 := ⟨_, rfl⟩
      obtain rfl := hq
      have hP : va_P (dC, dI) vwCl [(o 5, .inl (dA 1, 2640, .inr (.inl fA))), (o 6, .inl (dA 1, 32, .inr (.inl fM))), (o 0, .inr (2, mFs o (nI 1) p0 q0 r0 mu zz))] H := hP
      have hD : va_D A [(o 5, .inl (dA 1, 2640, .inr (.inl fA))), (o 6, .inl (dA 1, 32, .inr (.inl fM))), (o 0, .inr (2, mFs o (nI 1) p0 q0 r0 mu zz))] := hD
      subst hQe
      exact W.iret (v := nI 0) hx hb hr (fun t ht hW => ⟨⟨_, (fA, fM, mu, nI 1), rfl, ModPost.mk0 (c := nI 1) (by simp [prjX, rgB, optC, h_t, h_a, rg_n (show jt < 8 by omega), nI_clamp (show jt < 2 ^ 31 by omega)]) (fun k9 hk9 i9 hi9 => rfl), B1_at ht (hP.sub [2, 0, 1] rfl) (hD.sub [2, 0, 1] (by decide) rfl) trivial⟩, hS.F ht⟩) hS.2.2 dX7_project_26
    · have h_a := bI_1 c_11
      obtain ⟨ja, hj_a, rfl⟩ := inB_nat (by decide) h_a
      refine lv_iload_n hx hb dX7_project_14 rfl (lv_at hl 3 rfl) ?_
      refine s_i (va_runS (As := [.int b]) (rest := []) ⟨hx, hb, hml, hown, hts⟩ (x7_isRegister Z b) (va_cwS 1 hts (lw_S q2104 q2105 q107 q2106) rfl rfl rfl (by decide +kernel) ⟨Nat.le_of_ble_eq_true rfl, Nat.le_of_ble_eq_true rfl⟩) (gP_S hG hS (fun q _ h => h.elim) trivial) rfl rfl hl.1 rfl (lv_room (Nat.le_of_ble_eq_true rfl)) dX7_project_15 ⟨by first | decide | omega, by first | decide | omega⟩) ?_
      refine lv_if_ne (tgt := 27) hx hb dX7_project_18 (by decide) (fun c_18 => ?_) (fun c_18 => ?_)
      · have h_b := bI_1 c_18
        obtain ⟨jb, hj_b, rfl⟩ := inB_nat (by decide) h_b
        refine lv_aload_n hx hb dX7_project_27 rfl (lv_at hl 0 rfl) ?_
        refine lv_iload_n hx hb dX7_project_28 rfl (lv_at hl 3 rfl) ?_
        refine lv_bipush (v := nI 25) hx hb dX7_project_29 (by decide) ?_
        have hF9 := va_free (wc := [(o 0, .inr (2, mFs o th p0 q0 r0 mu zz)), (o 5, .inl (dA 1, 2640, .inr (.inl fA))), (o 6, .inl (dA 1, 32, .inr (.inl fM)))]) hD hS (fun q h => hA q h) [0, 1, 2] rfl
        refine c_i (wr := []) (va_runV (As := [.int (nI jb), .int (nI 25)]) (rest := []) ⟨hx, hb, hml, hown, hts⟩ (x7_laysSquare Z (va_A [(o 0, .inr (2, mFs o th p0 q0 r0 mu zz)), (o 5, .inl (dA 1, 2640, .inr (.inl fA))), (o 6, .inl (dA 1, 32, .inr (.inl fM)))] s.heap.size) s.heap.size (fun q h => Or.inr h) o th p0 q0 r0 mu zz fA fM jb 25 (Ms jb) (by omega) (by omega) (by omega) (by omega) (by omega) (hR jb (by omega)) (sR jb (by omega))) (cwV 2 hts (lw_V q2201 q2203 qs52 q107 q2204) rfl rfl rfl (by decide +kernel) ⟨Nat.le_of_ble_eq_true rfl, Nat.le_of_ble_eq_true rfl⟩) (gP_V (va_recv hK hP (ci := 2) (q0 := 0) rfl rfl) hG hS (fun q _ h => hF9 q h) ⟨rfl, (hP.sub (ws' := [(o 0, .inr (2, mFs o th p0 q0 r0 mu zz)), (o 5, .inl (dA 1, 2640, .inr (.inl fA))), (o 6, .inl (dA 1, 32, .inr (.inl fM)))]) [0, 1, 2] rfl), (hD.sub (ws' := [(o 0, .inr (2, mFs o th p0 q0 r0 mu zz)), (o 5, .inl (dA 1, 2640, .inr (.inl fA))), (o 6, .inl (dA 1, 32, .inr (.inl fM)))]) [0, 1, 2] (by decide) rfl).self⟩) rfl rfl hl.1 rfl (lv_room (Nat.le_of_ble_eq_true rfl)) dX7_project_31 ⟨by first | decide | omega, by first | decide | omega⟩) hP hD hS hA [0, 1, 2] [] rfl rfl (by decide) (by decide) (fun r9 u9 H locs hq hX hz hk hP hD hS => ?_)
        obtain ⟨fA_3, fM_4, mu_5⟩ := u9
        obtain ⟨r_6, rfl⟩ : ∃ z, z = r9 := ⟨_, rfl⟩
        have hq_7 := hq
        try dsimp only at hq_7
        have hP : va_P (dC, dI) vwCl [(o 0, .inr (2, mFs o th p0 q0 r0 mu_5 zz)), (o 5, .inl (dA 1, 2640, .inr (.inl fA_3))), (o 6, .inl (dA 1, 32, .inr (.inl fM_4)))] H := hP
        have hD : va_D A [(o 0, .inr (2, mFs o th p0 q0 r0 mu_5 zz)), (o 5, .inl (dA 1, 2640, .inr (.inl fA_3))), (o 6, .inl (dA 1, 32, .inr (.inl fM_4)))] := hD
        obtain ⟨hR_8, hq_7⟩ := hq_7
        have smR_8 := trnS_sm (op := 0) (p := p0) (q := q0) (r := r0) (by omega) (sR jb (by omega))
        rcases hq_7 with ⟨P_8, e_8, rfl, hH_8, hS_8⟩ | ⟨e_8, rfl, hE_8⟩
        · have sm_9 : MSm P_8 := mulS_sm (sR jb (by omega)) smR_8 e_8
          have hh_10 := hS_8.hold (k := jt) (by omega) (hR jt (by omega))
          have hh_11 := hS_8.hold (k := ja) (by omega) (hR ja (by omega))
          have hh_12 := hS_8.hold (k := jb) (by omega) (hR jb (by omega))
          refine lv_if_ne (tgt := 43) hx hb dX7_project_34 (by decide) (fun c_34 => ?_) (fun c_34 => ?_)
          rotate_left
          · exact absurd c_34 (by decide)
          refine lv_aload_n hx hb dX7_project_43 rfl (lv_at hl 0 rfl) ?_
          refine lv_bipush (v := nI 25) hx hb dX7_project_44 (by decide) ?_
          refine s_i (va_runV (As := [.int (nI 25)]) (rest := []) ⟨hx, hb, hml, hown, hts⟩ (x7_isNumber Z o th p0 q0 r0 mu_5 zz fA_3 25 P_8 (by omega) hH_8) (cwV 1 hts (lw_V q2205 q2207 qs53 q107 q2208) rfl rfl rfl (by decide +kernel) ⟨Nat.le_of_ble_eq_true rfl, Nat.le_of_ble_eq_true rfl⟩) (gP_V (va_recv hK hP (ci := 2) (q0 := 0) rfl rfl) hG hS (fun q _ h => h.elim) (hP.sub (ws' := [(o 0, .inr (2, mFs o th p0 q0 r0 mu_5 zz)), (o 5, .inl (dA 1, 2640, .inr (.inl fA_3)))]) [0, 1] rfl)) rfl rfl hl.1 rfl (lv_room (Nat.le_of_ble_eq_true rfl)) dX7_project_46 ⟨by first | decide | omega, by first | decide | omega⟩) ?_
          refine lv_if_ne (tgt := 58) hx hb dX7_project_49 (by decide) (fun c_49 => ?_) (fun c_49 => ?_)
          · have hb_49 := bI_1 c_49
            refine lv_aload_n hx hb dX7_project_58 rfl (lv_at hl 0 rfl) ?_
            refine lv_bipush (v := nI 31) hx hb dX7_project_59 (by decide) ?_
            refine lv_aload_n hx hb dX7_project_61 rfl (lv_at hl 0 rfl) ?_
            refine lv_bipush (v := nI 25) hx hb dX7_project_62 (by decide) ?_
            refine s_l (va_runV (As := [.int (nI 25)]) (rest := [.int (nI 31), .ref (o 0)]) ⟨hx, hb, hml, hown, hts⟩ (x7_under Z o th p0 q0 r0 mu_5 zz fA_3 25 (by omega)) (cwV 1 hts (lw_V q2123 q2125 qs39 q107 q2126) rfl rfl rfl (by decide +kernel) ⟨Nat.le_of_ble_eq_true rfl, Nat.le_of_ble_eq_true rfl⟩) (gP_V (va_recv hK hP (ci := 2) (q0 := 0) rfl rfl) hG hS (fun q _ h => h.elim) (hP.sub (ws' := [(o 0, .inr (2, mFs o th p0 q0 r0 mu_5 zz)), (o 5, .inl (dA 1, 2640, .inr (.inl fA_3)))]) [0, 1] rfl)) rfl rfl hl.1 rfl (lv_room (Nat.le_of_ble_eq_true rfl)) dX7_project_64 ⟨by first | decide | omega, by first | decide | omega⟩) ?_
            refine e_l (y := P_8 0) (hold_at hH_8 (i := 0) (by omega) (by omega)) ?_
            refine lv_aload_n hx hb dX7_project_67 rfl (lv_at hl 0 rfl) ?_
            refine lv_bipush (v := nI 25) hx hb dX7_project_68 (by decide) ?_
            refine lv_iconst (v := nI 0) hx hb dX7_project_70 (by decide) ?_
            refine s_l (va_runV (As := [.int (nI 25), .int (nI 0)]) (rest := [.long (P_8 0), .int (nI 31), .ref (o 0)]) ⟨hx, hb, hml, hown, hts⟩ (x7_of Z o th p0 q0 r0 mu_5 zz fA_3 25 0 (by omega)) (cwV 2 hts (lw_V q2119 q2121 qs38 q107 q2122) rfl rfl rfl (by decide +kernel) ⟨Nat.le_of_ble_eq_true rfl, Nat.le_of_ble_eq_true rfl⟩) (gP_V (va_recv hK hP (ci := 2) (q0 := 0) rfl rfl) hG hS (fun q _ h => h.elim) (hP.sub (ws' := [(o 0, .inr (2, mFs o th p0 q0 r0 mu_5 zz)), (o 5, .inl (dA 1, 2640, .inr (.inl fA_3)))]) [0, 1] rfl)) rfl rfl hl.1 rfl (lv_room (Nat.le_of_ble_eq_true rfl)) dX7_project_71 ⟨by first | decide | omega, by first | decide | omega⟩) ?_
            refine e_l (y := P_8 1) (hold_at hH_8 (i := 0 + 1) (by omega) (by omega)) ?_
            refine lv_bipush (v := nI 26) hx hb dX7_project_74 (by decide) ?_
            have hF9 := va_free (wc := [(o 0, .inr (2, mFs o th p0 q0 r0 mu_5 zz)), (o 5, .inl (dA 1, 2640, .inr (.inl fA_3))), (o 6, .inl (dA 1, 32, .inr (.inl fM_4)))]) hD hS (fun q h => hA q h) [0, 1, 2] rfl
            refine c_i (wr := []) (va_runV (As := [.int (nI 31), .long (P_8 0), .long (P_8 1), .int (nI 26)]) (rest := []) ⟨hx, hb, hml, hown, hts⟩ (x7_scales Z (va_A [(o 0, .inr (2, mFs o th p0 q0 r0 mu_5 zz)), (o 5, .inl (dA 1, 2640, .inr (.inl fA_3))), (o 6, .inl (dA 1, 32, .inr (.inl fM_4)))] H.size) H.size (fun q h => Or.inr h) o th p0 q0 r0 mu_5 zz fA_3 fM_4 31 26 (P_8 0) (P_8 1) (revS p0 q0 r0 (Ms jb)) sm_9.u (sm_9.c (j := 0) (by decide)) (isNumB_1 hb_49) (by omega) (by omega) hR_8 smR_8) (cwV 4 hts (lw_V q2176 q2178 qs47 q107 q2179) rfl rfl rfl (by decide +kernel) ⟨Nat.le_of_ble_eq_true rfl, Nat.le_of_ble_eq_true rfl⟩) (gP_V (va_recv hK hP (ci := 2) (q0 := 0) rfl rfl) hG hS (fun q _ h => hF9 q h) ⟨rfl, (hP.sub (ws' := [(o 0, .inr (2, mFs o th p0 q0 r0 mu_5 zz)), (o 5, .inl (dA 1, 2640, .inr (.inl fA_3))), (o 6, .inl (dA 1, 32, .inr (.inl fM_4)))]) [0, 1, 2] rfl), (hD.sub (ws' := [(o 0, .inr (2, mFs o th p0 q0 r0 mu_5 zz)), (o 5, .inl (dA 1, 2640, .inr (.inl fA_3))), (o 6, .inl (dA 1, 32, .inr (.inl fM_4)))]) [0, 1, 2] (by decide) rfl).self⟩) rfl rfl hl.1 rfl (lv_room (Nat.le_of_ble_eq_true rfl)) dX7_project_76 ⟨by first | decide | omega, by first | decide | omega⟩) hP hD hS hA [0, 1, 2] [] rfl rfl (by decide) (by decide) (fun r9 u9 H locs hq hX hz hk hP hD hS => ?_)
            obtain ⟨fA_13, fM_14, mu_15⟩ := u9
            obtain ⟨r_16, rfl⟩ : ∃ z, z = r9 := ⟨_, rfl⟩
            have hq_17 := hq
            try dsimp only at hq_17
            have hP : va_P (dC, dI) vwCl [(o 0, .inr (2, mFs o th p0 q0 r0 mu_15 zz)), (o 5, .inl (dA 1, 2640, .inr (.inl fA_13))), (o 6, .inl (dA 1, 32, .inr (.inl fM_14)))] H := hP
            have hD : va_D A [(o 0, .inr (2, mFs o th p0 q0 r0 mu_15 zz)), (o 5, .inl (dA 1, 2640, .inr (.inl fA_13))), (o 6, .inl (dA 1, 32, .inr (.inl fM_14)))] := hD
            rcases hq_17.cases with ⟨P_18, e_18, rfl, hH_18, hS_18⟩ | ⟨e_18, rfl, hE_18⟩
            · have sm_19 : MSm P_18 := scaS_sm (sm_9.c (j := 0) (by decide)) (isNumB_1 hb_49) smR_8 e_18
              have hh_20 := hS_18.hold (j := jt) (by omega) hh_10
              have hh_21 := hS_18.hold (j := ja) (by omega) hh_11
              have hh_22 := hS_18.hold (j := jb) (by omega) hh_12
              have hh_23 := hS_18.hold (j := 25) (by omega) hH_8
              have hh_24 := hS_18.hold (j := 31) (by omega) hR_8
              refine lv_if_eq (tgt := 112) hx hb dX7_project_79 (by decide) (fun c_79 => ?_) (fun c_79 => ?_)
              · exact absurd c_79 (by decide)
              refine lv_aload_n hx hb dX7_project_82 rfl (lv_at hl 0 rfl) ?_
              refine lv_iconst (v := nI 4) hx hb dX7_project_83 (by decide) ?_
              refine lv_iload_n hx hb dX7_project_84 rfl (lv_at hl 2 rfl) ?_
              refine lv_iload_n hx hb dX7_project_85 rfl (lv_at hl 3 rfl) ?_
              refine lv_bipush (v := nI 27) hx hb dX7_project_86 (by decide) ?_
              have hF9 := va_free (wc := [(o 0, .inr (2, mFs o th p0 q0 r0 mu_15 zz)), (o 5, .inl (dA 1, 2640, .inr (.inl fA_13))), (o 6, .inl (dA 1, 32, .inr (.inl fM_14)))]) hD hS (fun q h => hA q h) [0, 1, 2] rfl
              refine c_i (wr := []) (va_runV (As := [.int (nI 4), .int (nI ja), .int (nI jb), .int (nI 27)]) (rest := []) ⟨hx, hb, hml, hown, hts⟩ (x7_multiplies Z (va_A [(o 0, .inr (2, mFs o th p0 q0 r0 mu_15 zz)), (o 5, .inl (dA 1, 2640, .inr (.inl fA_13))), (o 6, .inl (dA 1, 32, .inr (.inl fM_14)))] H.size) H.size (fun q h => Or.inr h) o th p0 q0 r0 mu_15 zz fA_13 fM_14 4 ja jb 27 (Ms ja) (Ms jb) hn (by omega) (by omega) (by omega) (by omega) (by omega) hh_21 hh_22 (sR ja (by omega)) (sR jb (by omega))) (cwV 4 hts (lw_V q2168 q2170 qs46 q107 q2171) rfl rfl rfl (by decide +kernel) ⟨Nat.le_of_ble_eq_true rfl, Nat.le_of_ble_eq_true rfl⟩) (gP_V (va_recv hK hP (ci := 2) (q0 := 0) rfl rfl) hG hS (fun q _ h => hF9 q h) ⟨rfl, (hP.sub (ws' := [(o 0, .inr (2, mFs o th p0 q0 r0 mu_15 zz)), (o 5, .inl (dA 1, 2640, .inr (.inl fA_13))), (o 6, .inl (dA 1, 32, .inr (.inl fM_14)))]) [0, 1, 2] rfl), (hD.sub (ws' := [(o 0, .inr (2, mFs o th p0 q0 r0 mu_15 zz)), (o 5, .inl (dA 1, 2640, .inr (.inl fA_13))), (o 6, .inl (dA 1, 32, .inr (.inl fM_14)))]) [0, 1, 2] (by decide) rfl).self⟩) rfl rfl hl.1 rfl (lv_room (Nat.le_of_ble_eq_true rfl)) dX7_project_88 ⟨by first | decide | omega, by first | decide | omega⟩) hP hD hS hA [0, 1, 2] [] rfl rfl (by decide) (by decide) (fun r9 u9 H locs hq hX hz hk hP hD hS => ?_)
              obtain ⟨fA_25, fM_26, mu_27⟩ := u9
              obtain ⟨r_28, rfl⟩ : ∃ z, z = r9 := ⟨_, rfl⟩
              have hq_29 := hq
              try dsimp only at hq_29
              have hP : va_P (dC, dI) vwCl [(o 0, .inr (2, mFs o th p0 q0 r0 mu_27 zz)), (o 5, .inl (dA 1, 2640, .inr (.inl fA_25))), (o 6, .inl (dA 1, 32, .inr (.inl fM_26)))] H := hP
              have hD : va_D A [(o 0, .inr (2, mFs o th p0 q0 r0 mu_27 zz)), (o 5, .inl (dA 1, 2640, .inr (.inl fA_25))), (o 6, .inl (dA 1, 32, .inr (.inl fM_26)))] := hD
              rcases hq_29.cases with ⟨P_30, e_30, rfl, hH_30, hS_30⟩ | ⟨e_30, rfl, hE_30⟩
              · have sm_31 : MSm P_30 := mulS_sm (sR ja (by omega)) (sR jb (by omega)) e_30
                have hh_32 := hS_30.hold (j := jt) (by omega) hh_20
                have hh_33 := hS_30.hold (j := ja) (by omega) hh_21
                have hh_34 := hS_30.hold (j := jb) (by omega) hh_22
                have hh_35 := hS_30.hold (j := 25) (by omega) hh_23
                have hh_36 := hS_30.hold (j := 31) (by omega) hh_24
                have hh_37 := hS_30.hold (j := 26) (by omega) hH_18
                refine lv_if_eq (tgt := 112) hx hb dX7_project_91 (by decide) (fun c_91 => ?_) (fun c_91 => ?_)
                · exact absurd c_91 (by decide)
                refine lv_aload_n hx hb dX7_project_94 rfl (lv_at hl 0 rfl) ?_
                refine lv_iconst (v := nI 2) hx hb dX7_project_95 (by decide) ?_
                refine lv_bipush (v := nI 27) hx hb dX7_project_96 (by decide) ?_
                refine lv_bipush (v := nI 26) hx hb dX7_project_98 (by decide) ?_
                refine lv_bipush (v := nI 24) hx hb dX7_project_100 (by decide) ?_
                have hF9 := va_free (wc := [(o 0, .inr (2, mFs o th p0 q0 r0 mu_27 zz)), (o 5, .inl (dA 1, 2640, .inr (.inl fA_25))), (o 6, .inl (dA 1, 32, .inr (.inl fM_26)))]) hD hS (fun q h => hA q h) [0, 1, 2] rfl
                refine c_i (wr := []) (va_runV (As := [.int (nI 2), .int (nI 27), .int (nI 26), .int (nI 24)]) (rest := []) ⟨hx, hb, hml, hown, hts⟩ (x7_multiplies Z (va_A [(o 0, .inr (2, mFs o th p0 q0 r0 mu_27 zz)), (o 5, .inl (dA 1, 2640, .inr (.inl fA_25))), (o 6, .inl (dA 1, 32, .inr (.inl fM_26)))] H.size) H.size (fun q h => Or.inr h) o th p0 q0 r0 mu_27 zz fA_25 fM_26 2 27 26 24 P_30 P_18 hn (by omega) (by omega) (by omega) (by omega) (by omega) hH_30 hh_37 sm_31 sm_19) (cwV 4 hts (lw_V q2168 q2170 qs46 q107 q2171) rfl rfl rfl (by decide +kernel) ⟨Nat.le_of_ble_eq_true rfl, Nat.le_of_ble_eq_true rfl⟩) (gP_V (va_recv hK hP (ci := 2) (q0 := 0) rfl rfl) hG hS (fun q _ h => hF9 q h) ⟨rfl, (hP.sub (ws' := [(o 0, .inr (2, mFs o th p0 q0 r0 mu_27 zz)), (o 5, .inl (dA 1, 2640, .inr (.inl fA_25))), (o 6, .inl (dA 1, 32, .inr (.inl fM_26)))]) [0, 1, 2] rfl), (hD.sub (ws' := [(o 0, .inr (2, mFs o th p0 q0 r0 mu_27 zz)), (o 5, .inl (dA 1, 2640, .inr (.inl fA_25))), (o 6, .inl (dA 1, 32, .inr (.inl fM_26)))]) [0, 1, 2] (by decide) rfl).self⟩) rfl rfl hl.1 rfl (lv_room (Nat.le_of_ble_eq_true rfl)) dX7_project_102 ⟨by first | decide | omega, by first | decide | omega⟩) hP hD hS hA [0, 1, 2] [] rfl rfl (by decide) (by decide) (fun r9 u9 H locs hq hX hz hk hP hD hS => ?_)
                obtain ⟨fA_38, fM_39, mu_40⟩ := u9
                obtain ⟨r_41, rfl⟩ : ∃ z, z = r9 := ⟨_, rfl⟩
                have hq_42 := hq
                try dsimp only at hq_42
                have hP : va_P (dC, dI) vwCl [(o 0, .inr (2, mFs o th p0 q0 r0 mu_40 zz)), (o 5, .inl (dA 1, 2640, .inr (.inl fA_38))), (o 6, .inl (dA 1, 32, .inr (.inl fM_39)))] H := hP
                have hD : va_D A [(o 0, .inr (2, mFs o th p0 q0 r0 mu_40 zz)), (o 5, .inl (dA 1, 2640, .inr (.inl fA_38))), (o 6, .inl (dA 1, 32, .inr (.inl fM_39)))] := hD
                rcases hq_42.cases with ⟨P_43, e_43, rfl, hH_43, hS_43⟩ | ⟨e_43, rfl, hE_43⟩
                · have sm_44 : MSm P_43 := mulS_sm sm_31 sm_19 e_43
                  have hh_45 := hS_43.hold (j := jt) (by omega) hh_32
                  have hh_46 := hS_43.hold (j := ja) (by omega) hh_33
                  have hh_47 := hS_43.hold (j := jb) (by omega) hh_34
                  have hh_48 := hS_43.hold (j := 25) (by omega) hh_35
                  have hh_49 := hS_43.hold (j := 31) (by omega) hh_36
                  have hh_50 := hS_43.hold (j := 26) (by omega) hh_37
                  have hh_51 := hS_43.hold (j := 27) (by omega) hH_30
                  refine lv_if_eq (tgt := 112) hx hb dX7_project_105 (by decide) (fun c_105 => ?_) (fun c_105 => ?_)
                  · exact absurd c_105 (by decide)
                  refine lv_iconst (v := nI 1) hx hb dX7_project_108 (by decide) ?_
                  refine lv_goto (tgt := 113) hx hb dX7_project_109 (by decide) ?_
                  refine lv_istore (lv' := [(4, .int (nI 1)), (0, .ref (o 0)), (1, .int (nI jt)), (2, .int (nI ja)), (3, .int (nI jb))]) hx hb dX7_project_113 hl (by decide) rfl (fun ls hl => ?_)
                  refine lv_iload hx hb dX7_project_115 (lv_at hl 0 rfl) ?_
                  refine lv_if_eq (tgt := 130) hx hb dX7_project_117 (by decide) (fun c_117 => ?_) (fun c_117 => ?_)
                  · exact absurd c_117 (by decide)
                  refine lv_aload_n hx hb dX7_project_120 rfl (lv_at hl 1 rfl) ?_
                  refine lv_bipush (v := nI 24) hx hb dX7_project_121 (by decide) ?_
                  refine lv_iload_n hx hb dX7_project_123 rfl (lv_at hl 2 rfl) ?_
                  have hF9 := va_free (wc := [(o 0, .inr (2, mFs o th p0 q0 r0 mu_40 zz)), (o 5, .inl (dA 1, 2640, .inr (.inl fA_38)))]) hD hS (fun q h => hA q h) [0, 1] rfl
                  refine c_i (wr := [(o 6, .inl (dA 1, 32, .inr (.inl fM_39)))]) (va_runV (As := [.int (nI 24), .int (nI jt)]) (rest := []) ⟨hx, hb, hml, hown, hts⟩ (x7_gives Z (va_A [(o 0, .inr (2, mFs o th p0 q0 r0 mu_40 zz)), (o 5, .inl (dA 1, 2640, .inr (.inl fA_38)))] H.size) H.size (fun q h => Or.inr h) o th p0 q0 r0 mu_40 zz fA_38 fM_39 24 jt (by omega) (by omega)) (cwV 2 hts (lw_V q2181 q2183 qs48 q107 q2184) rfl rfl rfl (by decide +kernel) ⟨Nat.le_of_ble_eq_true rfl, Nat.le_of_ble_eq_true rfl⟩) (gP_V (va_recv hK hP (ci := 2) (q0 := 0) rfl rfl) hG hS (fun q _ h => hF9 q h) ⟨rfl, (hP.sub (ws' := [(o 0, .inr (2, mFs o th p0 q0 r0 mu_40 zz)), (o 5, .inl (dA 1, 2640, .inr (.inl fA_38)))]) [0, 1] rfl), (hD.sub (ws' := [(o 0, .inr (2, mFs o th p0 q0 r0 mu_40 zz)), (o 5, .inl (dA 1, 2640, .inr (.inl fA_38)))]) [0, 1] (by decide) rfl).self⟩) rfl rfl hl.1 rfl (lv_room (Nat.le_of_ble_eq_true rfl)) dX7_project_124 ⟨by first | decide | omega, by first | decide | omega⟩) hP hD hS hA [0, 1] [2] rfl rfl (by decide) (by decide) (fun r9 u9 H locs hq hX hz hk hP hD hS => ?_)
                  obtain ⟨r_52, rfl⟩ : ∃ z, z = r9 := ⟨_, rfl⟩
                  obtain rfl := hq
                  have hP : va_P (dC, dI) vwCl [(o 6, .inl (dA 1, 32, .inr (.inl fM_39))), (o 0, .inr (2, mFs o (nI 0) p0 q0 r0 mu_40 zz)), (o 5, .inl (dA 1, 2640, .inr (.inl (cpS fA_38 24 jt))))] H := hP
                  have hD : va_D A [(o 6, .inl (dA 1, 32, .inr (.inl fM_39))), (o 0, .inr (2, mFs o (nI 0) p0 q0 r0 mu_40 zz)), (o 5, .inl (dA 1, 2640, .inr (.inl (cpS fA_38 24 jt))))] := hD
                  have hc_54 := cpS_hold (t := jt) hH_43
                  have hs_55 := cpS_same (fA := fA_38) (k := 24) (t := jt)
                  generalize cpS fA_38 24 jt = fA_53 at hP hD hc_54 hs_55 ⊢
                  have hh_56 := hs_55.hold (j := 25) (by omega) hh_48
                  have hh_57 := hs_55.hold (j := 31) (by omega) hh_49
                  have hh_58 := hs_55.hold (j := 26) (by omega) hh_50
                  have hh_59 := hs_55.hold (j := 27) (by omega) hh_51
                  have hh_60 := hs_55.hold (j := 24) (by omega) hH_43
                  refine lv_goto (tgt := 135) hx hb dX7_project_127 (by decide) ?_
                  subst hQe
                  exact W.iret (v := nI (cntN (fun j => fA_53 (33 * jt + 1 + j)) 32)) hx hb hr (fun t ht hW => ⟨⟨_, (fA_53, fM_39, mu_40, nI 0), rfl, (by rw [rg_n (show jt < 8 by omega)]; exact ModPost.mk1 (P := P_43) (by simp [prjX, rgB, optC, h_t, h_a, h_b, e_8, hb_49, e_18, e_30, e_43, rg_n (show jt < 8 by omega), rg_n (show ja < 8 by omega), rg_n (show jb < 8 by omega), nI_clamp (show jt < 2 ^ 31 by omega), nI_clamp (show ja < 2 ^ 31 by omega), nI_clamp (show jb < 2 ^ 31 by omega)]) hc_54 (fun k9 hk9 i9 hi9 => by (try dsimp only [outH] at hk9); show fA_53 (33 * k9 + i9) = fA (33 * k9 + i9); rw [hs_55 _ (by omega), hS_43 _ (by omega), hS_30 _ (by omega), hS_18 _ (by omega), hS_8 k9 (by omega) i9 hi9])), B1_at ht (hP.sub [1, 2, 0] rfl) (hD.sub [1, 2, 0] (by decide) rfl) trivial⟩, hS.F ht⟩) hS.2.2 dX7_project_135
                · have hh_61 : Hold fA_38 jt (Ms jt) := by rw [hE_43]; exact hh_32
                  have hh_62 : Hold fA_38 ja (Ms ja) := by rw [hE_43]; exact hh_33
                  have hh_63 : Hold fA_38 jb (Ms jb) := by rw [hE_43]; exact hh_34
                  have hh_64 : Hold fA_38 25 P_8 := by rw [hE_43]; exact hh_35
                  have hh_65 : Hold fA_38 31 (revS p0 q0 r0 (Ms jb)) := by rw [hE_43]; exact hh_36
                  have hh_66 : Hold fA_38 26 P_18 := by rw [hE_43]; exact hh_37
                  have hh_67 : Hold fA_38 27 P_30 := by rw [hE_43]; exact hH_30
                  refine lv_if_eq (tgt := 112) hx hb dX7_project_105 (by decide) (fun c_105 => ?_) (fun c_105 => ?_)
                  rotate_left
                  · exact absurd (by decide) c_105
                  refine lv_iconst (v := nI 0) hx hb dX7_project_112 (by decide) ?_
                  refine lv_istore (lv' := [(4, .int (nI 0)), (0, .ref (o 0)), (1, .int (nI jt)), (2, .int (nI ja)), (3, .int (nI jb))]) hx hb dX7_project_113 hl (by decide) rfl (fun ls hl => ?_)
                  refine lv_iload hx hb dX7_project_115 (lv_at hl 0 rfl) ?_
                  refine lv_if_eq (tgt := 130) hx hb dX7_project_117 (by decide) (fun c_117 => ?_) (fun c_117 => ?_)
                  rotate_left
                  · exact absurd (by decide) c_117
                  refine lv_aload_n hx hb dX7_project_130 rfl (lv_at hl 1 rfl) ?_
                  refine lv_iconst (v := nI 2) hx hb dX7_project_131 (by decide) ?_
                  have hF9 := va_free (wc := [(o 0, .inr (2, mFs o th p0 q0 r0 mu_40 zz))]) hD hS (fun q h => hA q h) [0] rfl
                  refine c_i (wr := [(o 5, .inl (dA 1, 2640, .inr (.inl fA_38))), (o 6, .inl (dA 1, 32, .inr (.inl fM_39)))]) (va_runV (As := [.int (nI 2)]) (rest := []) ⟨hx, hb, hml, hown, hts⟩ (x7_refuses Z (va_A [(o 0, .inr (2, mFs o th p0 q0 r0 mu_40 zz))] H.size) H.size (fun q h => Or.inr h) o th p0 q0 r0 mu_40 zz (nI 2)) (cwV 1 hts (lw_V q2100 q2102 qs34 q107 q2103) rfl rfl rfl (by decide +kernel) ⟨Nat.le_of_ble_eq_true rfl, Nat.le_of_ble_eq_true rfl⟩) (gP_V (va_recv hK hP (ci := 2) (q0 := 0) rfl rfl) hG hS (fun q _ h => hF9 q h) ⟨rfl, (hP.sub (ws' := [(o 0, .inr (2, mFs o th p0 q0 r0 mu_40 zz))]) [0] rfl), (hD.sub (ws' := [(o 0, .inr (2, mFs o th p0 q0 r0 mu_40 zz))]) [0] (by decide) rfl).self⟩) rfl rfl hl.1 rfl (lv_room (Nat.le_of_ble_eq_true rfl)) dX7_project_132 ⟨by first | decide | omega, by first | decide | omega⟩) hP hD hS hA [0] [1, 2] rfl rfl (by decide) (by decide) (fun r9 u9 H locs hq hX hz hk hP hD hS => ?_)
                  obtain ⟨r_68, rfl⟩ : ∃ z, z = r9 := ⟨_, rfl⟩
                  obtain rfl := hq
                  have hP : va_P (dC, dI) vwCl [(o 5, .inl (dA 1, 2640, .inr (.inl fA_38))), (o 6, .inl (dA 1, 32, .inr (.inl fM_39))), (o 0, .inr (2, mFs o (nI 2) p0 q0 r0 mu_40 zz))] H := hP
                  have hD : va_D A [(o 5, .inl (dA 1, 2640, .inr (.inl fA_38))), (o 6, .inl (dA 1, 32, .inr (.inl fM_39))), (o 0, .inr (2, mFs o (nI 2) p0 q0 r0 mu_40 zz))] := hD
                  subst hQe
                  exact W.iret (v := nI 0) hx hb hr (fun t ht hW => ⟨⟨_, (fA_38, fM_39, mu_40, nI 2), rfl, ModPost.mk0 (c := nI 2) (by simp [prjX, rgB, optC, h_t, h_a, h_b, e_8, hb_49, e_18, e_30, e_43, rg_n (show jt < 8 by omega), rg_n (show ja < 8 by omega), rg_n (show jb < 8 by omega), nI_clamp (show jt < 2 ^ 31 by omega), nI_clamp (show ja < 2 ^ 31 by omega), nI_clamp (show jb < 2 ^ 31 by omega)]) (fun k9 hk9 i9 hi9 => by (try dsimp only [outH] at hk9); show fA_38 (33 * k9 + i9) = fA (33 * k9 + i9); rw [hE_43, hS_30 _ (by omega), hS_18 _ (by omega), hS_8 k9 (by omega) i9 hi9]), B1_at ht (hP.sub [2, 0, 1] rfl) (hD.sub [2, 0, 1] (by decide) rfl) trivial⟩, hS.F ht⟩) hS.2.2 dX7_project_135
              · have hh_69 : Hold fA_25 jt (Ms jt) := by rw [hE_30]; exact hh_20
                have hh_70 : Hold fA_25 ja (Ms ja) := by rw [hE_30]; exact hh_21
                have hh_71 : Hold fA_25 jb (Ms jb) := by rw [hE_30]; exact hh_22
                have hh_72 : Hold fA_25 25 P_8 := by rw [hE_30]; exact hh_23
                have hh_73 : Hold fA_25 31 (revS p0 q0 r0 (Ms jb)) := by rw [hE_30]; exact hh_24
                have hh_74 : Hold fA_25 26 P_18 := by rw [hE_30]; exact hH_18
                refine lv_if_eq (tgt := 112) hx hb dX7_project_91 (by decide) (fun c_91 => ?_) (fun c_91 => ?_)
                rotate_left
                · exact absurd (by decide) c_91
                refine lv_iconst (v := nI 0) hx hb dX7_project_112 (by decide) ?_
                refine lv_istore (lv' := [(4, .int (nI 0)), (0, .ref (o 0)), (1, .int (nI jt)), (2, .int (nI ja)), (3, .int (nI jb))]) hx hb dX7_project_113 hl (by decide) rfl (fun ls hl => ?_)
                refine lv_iload hx hb dX7_project_115 (lv_at hl 0 rfl) ?_
                refine lv_if_eq (tgt := 130) hx hb dX7_project_117 (by decide) (fun c_117 => ?_) (fun c_117 => ?_)
                rotate_left
                · exact absurd (by decide) c_117
                refine lv_aload_n hx hb dX7_project_130 rfl (lv_at hl 1 rfl) ?_
                refine lv_iconst (v := nI 2) hx hb dX7_project_131 (by decide) ?_
                have hF9 := va_free (wc := [(o 0, .inr (2, mFs o th p0 q0 r0 mu_27 zz))]) hD hS (fun q h => hA q h) [0] rfl
                refine c_i (wr := [(o 5, .inl (dA 1, 2640, .inr (.inl fA_25))), (o 6, .inl (dA 1, 32, .inr (.inl fM_26)))]) (va_runV (As := [.int (nI 2)]) (rest := []) ⟨hx, hb, hml, hown, hts⟩ (x7_refuses Z (va_A [(o 0, .inr (2, mFs o th p0 q0 r0 mu_27 zz))] H.size) H.size (fun q h => Or.inr h) o th p0 q0 r0 mu_27 zz (nI 2)) (cwV 1 hts (lw_V q2100 q2102 qs34 q107 q2103) rfl rfl rfl (by decide +kernel) ⟨Nat.le_of_ble_eq_true rfl, Nat.le_of_ble_eq_true rfl⟩) (gP_V (va_recv hK hP (ci := 2) (q0 := 0) rfl rfl) hG hS (fun q _ h => hF9 q h) ⟨rfl, (hP.sub (ws' := [(o 0, .inr (2, mFs o th p0 q0 r0 mu_27 zz))]) [0] rfl), (hD.sub (ws' := [(o 0, .inr (2, mFs o th p0 q0 r0 mu_27 zz))]) [0] (by decide) rfl).self⟩) rfl rfl hl.1 rfl (lv_room (Nat.le_of_ble_eq_true rfl)) dX7_project_132 ⟨by first | decide | omega, by first | decide | omega⟩) hP hD hS hA [0] [1, 2] rfl rfl (by decide) (by decide) (fun r9 u9 H locs hq hX hz hk hP hD hS => ?_)
                obtain ⟨r_75, rfl⟩ : ∃ z, z = r9 := ⟨_, rfl⟩
                obtain rfl := hq
                have hP : va_P (dC, dI) vwCl [(o 5, .inl (dA 1, 2640, .inr (.inl fA_25))), (o 6, .inl (dA 1, 32, .inr (.inl fM_26))), (o 0, .inr (2, mFs o (nI 2) p0 q0 r0 mu_27 zz))] H := hP
                have hD : va_D A [(o 5, .inl (dA 1, 2640, .inr (.inl fA_25))), (o 6, .inl (dA 1, 32, .inr (.inl fM_26))), (o 0, .inr (2, mFs o (nI 2) p0 q0 r0 mu_27 zz))] := hD
                subst hQe
                exact W.iret (v := nI 0) hx hb hr (fun t ht hW => ⟨⟨_, (fA_25, fM_26, mu_27, nI 2), rfl, ModPost.mk0 (c := nI 2) (by simp [prjX, rgB, optC, h_t, h_a, h_b, e_8, hb_49, e_18, e_30, rg_n (show jt < 8 by omega), rg_n (show ja < 8 by omega), rg_n (show jb < 8 by omega), nI_clamp (show jt < 2 ^ 31 by omega), nI_clamp (show ja < 2 ^ 31 by omega), nI_clamp (show jb < 2 ^ 31 by omega)]) (fun k9 hk9 i9 hi9 => by (try dsimp only [outH] at hk9); show fA_25 (33 * k9 + i9) = fA (33 * k9 + i9); rw [hE_30, hS_18 _ (by omega), hS_8 k9 (by omega) i9 hi9]), B1_at ht (hP.sub [2, 0, 1] rfl) (hD.sub [2, 0, 1] (by decide) rfl) trivial⟩, hS.F ht⟩) hS.2.2 dX7_project_135
            · have hh_76 : Hold fA_13 jt (Ms jt) := by rw [hE_18]; exact hh_10
              have hh_77 : Hold fA_13 ja (Ms ja) := by rw [hE_18]; exact hh_11
              have hh_78 : Hold fA_13 jb (Ms jb) := by rw [hE_18]; exact hh_12
              have hh_79 : Hold fA_13 25 P_8 := by rw [hE_18]; exact hH_8
              have hh_80 : Hold fA_13 31 (revS p0 q0 r0 (Ms jb)) := by rw [hE_18]; exact hR_8
              refine lv_if_eq (tgt := 112) hx hb dX7_project_79 (by decide) (fun c_79 => ?_) (fun c_79 => ?_)
              rotate_left
              · exact absurd (by decide) c_79
              refine lv_iconst (v := nI 0) hx hb dX7_project_112 (by decide) ?_
              refine lv_istore (lv' := [(4, .int (nI 0)), (0, .ref (o 0)), (1, .int (nI jt)), (2, .int (nI ja)), (3, .int (nI jb))]) hx hb dX7_project_113 hl (by decide) rfl (fun ls hl => ?_)
              refine lv_iload hx hb dX7_project_115 (lv_at hl 0 rfl) ?_
              refine lv_if_eq (tgt := 130) hx hb dX7_project_117 (by decide) (fun c_117 => ?_) (fun c_117 => ?_)
              rotate_left
              · exact absurd (by decide) c_117
              refine lv_aload_n hx hb dX7_project_130 rfl (lv_at hl 1 rfl) ?_
              refine lv_iconst (v := nI 2) hx hb dX7_project_131 (by decide) ?_
              have hF9 := va_free (wc := [(o 0, .inr (2, mFs o th p0 q0 r0 mu_15 zz))]) hD hS (fun q h => hA q h) [0] rfl
              refine c_i (wr := [(o 5, .inl (dA 1, 2640, .inr (.inl fA_13))), (o 6, .inl (dA 1, 32, .inr (.inl fM_14)))]) (va_runV (As := [.int (nI 2)]) (rest := []) ⟨hx, hb, hml, hown, hts⟩ (x7_refuses Z (va_A [(o 0, .inr (2, mFs o th p0 q0 r0 mu_15 zz))] H.size) H.size (fun q h => Or.inr h) o th p0 q0 r0 mu_15 zz (nI 2)) (cwV 1 hts (lw_V q2100 q2102 qs34 q107 q2103) rfl rfl rfl (by decide +kernel) ⟨Nat.le_of_ble_eq_true rfl, Nat.le_of_ble_eq_true rfl⟩) (gP_V (va_recv hK hP (ci := 2) (q0 := 0) rfl rfl) hG hS (fun q _ h => hF9 q h) ⟨rfl, (hP.sub (ws' := [(o 0, .inr (2, mFs o th p0 q0 r0 mu_15 zz))]) [0] rfl), (hD.sub (ws' := [(o 0, .inr (2, mFs o th p0 q0 r0 mu_15 zz))]) [0] (by decide) rfl).self⟩) rfl rfl hl.1 rfl (lv_room (Nat.le_of_ble_eq_true rfl)) dX7_project_132 ⟨by first | decide | omega, by first | decide | omega⟩) hP hD hS hA [0] [1, 2] rfl rfl (by decide) (by decide) (fun r9 u9 H locs hq hX hz hk hP hD hS => ?_)
              obtain ⟨r_81, rfl⟩ : ∃ z, z = r9 := ⟨_, rfl⟩
              obtain rfl := hq
              have hP : va_P (dC, dI) vwCl [(o 5, .inl (dA 1, 2640, .inr (.inl fA_13))), (o 6, .inl (dA 1, 32, .inr (.inl fM_14))), (o 0, .inr (2, mFs o (nI 2) p0 q0 r0 mu_15 zz))] H := hP
              have hD : va_D A [(o 5, .inl (dA 1, 2640, .inr (.inl fA_13))), (o 6, .inl (dA 1, 32, .inr (.inl fM_14))), (o 0, .inr (2, mFs o (nI 2) p0 q0 r0 mu_15 zz))] := hD
              subst hQe
              exact W.iret (v := nI 0) hx hb hr (fun t ht hW => ⟨⟨_, (fA_13, fM_14, mu_15, nI 2), rfl, ModPost.mk0 (c := nI 2) (by simp [prjX, rgB, optC, h_t, h_a, h_b, e_8, hb_49, e_18, rg_n (show jt < 8 by omega), rg_n (show ja < 8 by omega), rg_n (show jb < 8 by omega), nI_clamp (show jt < 2 ^ 31 by omega), nI_clamp (show ja < 2 ^ 31 by omega), nI_clamp (show jb < 2 ^ 31 by omega)]) (fun k9 hk9 i9 hi9 => by (try dsimp only [outH] at hk9); show fA_13 (33 * k9 + i9) = fA (33 * k9 + i9); rw [hE_18, hS_8 k9 (by omega) i9 hi9]), B1_at ht (hP.sub [2, 0, 1] rfl) (hD.sub [2, 0, 1] (by decide) rfl) trivial⟩, hS.F ht⟩) hS.2.2 dX7_project_135
          · have hb_49 := bI_0 c_49
            refine lv_aload_n hx hb dX7_project_52 rfl (lv_at hl 0 rfl) ?_
            refine lv_iconst (v := nI 3) hx hb dX7_project_53 (by decide) ?_
            have hF9 := va_free (wc := [(o 0, .inr (2, mFs o th p0 q0 r0 mu_5 zz))]) hD hS (fun q h => hA q h) [0] rfl
            refine c_i (wr := [(o 5, .inl (dA 1, 2640, .inr (.inl fA_3))), (o 6, .inl (dA 1, 32, .inr (.inl fM_4)))]) (va_runV (As := [.int (nI 3)]) (rest := []) ⟨hx, hb, hml, hown, hts⟩ (x7_refuses Z (va_A [(o 0, .inr (2, mFs o th p0 q0 r0 mu_5 zz))] H.size) H.size (fun q h => Or.inr h) o th p0 q0 r0 mu_5 zz (nI 3)) (cwV 1 hts (lw_V q2100 q2102 qs34 q107 q2103) rfl rfl rfl (by decide +kernel) ⟨Nat.le_of_ble_eq_true rfl, Nat.le_of_ble_eq_true rfl⟩) (gP_V (va_recv hK hP (ci := 2) (q0 := 0) rfl rfl) hG hS (fun q _ h => hF9 q h) ⟨rfl, (hP.sub (ws' := [(o 0, .inr (2, mFs o th p0 q0 r0 mu_5 zz))]) [0] rfl), (hD.sub (ws' := [(o 0, .inr (2, mFs o th p0 q0 r0 mu_5 zz))]) [0] (by decide) rfl).self⟩) rfl rfl hl.1 rfl (lv_room (Nat.le_of_ble_eq_true rfl)) dX7_project_54 ⟨by first | decide | omega, by first | decide | omega⟩) hP hD hS hA [0] [1, 2] rfl rfl (by decide) (by decide) (fun r9 u9 H locs hq hX hz hk hP hD hS => ?_)
            obtain ⟨r_82, rfl⟩ : ∃ z, z = r9 := ⟨_, rfl⟩
            obtain rfl := hq
            have hP : va_P (dC, dI) vwCl [(o 5, .inl (dA 1, 2640, .inr (.inl fA_3))), (o 6, .inl (dA 1, 32, .inr (.inl fM_4))), (o 0, .inr (2, mFs o (nI 3) p0 q0 r0 mu_5 zz))] H := hP
            have hD : va_D A [(o 5, .inl (dA 1, 2640, .inr (.inl fA_3))), (o 6, .inl (dA 1, 32, .inr (.inl fM_4))), (o 0, .inr (2, mFs o (nI 3) p0 q0 r0 mu_5 zz))] := hD
            subst hQe
            exact W.iret (v := nI 0) hx hb hr (fun t ht hW => ⟨⟨_, (fA_3, fM_4, mu_5, nI 3), rfl, ModPost.mk0 (c := nI 3) (by simp [prjX, rgB, optC, h_t, h_a, h_b, e_8, hb_49, rg_n (show jt < 8 by omega), rg_n (show ja < 8 by omega), rg_n (show jb < 8 by omega), nI_clamp (show jt < 2 ^ 31 by omega), nI_clamp (show ja < 2 ^ 31 by omega), nI_clamp (show jb < 2 ^ 31 by omega)]) (fun k9 hk9 i9 hi9 => by (try dsimp only [outH] at hk9); show fA_3 (33 * k9 + i9) = fA (33 * k9 + i9); rw [hS_8 k9 (by omega) i9 hi9]), B1_at ht (hP.sub [2, 0, 1] rfl) (hD.sub [2, 0, 1] (by decide) rfl) trivial⟩, hS.F ht⟩) hS.2.2 dX7_project_57
        · have hh_83 := hE_8.hold (k := jt) (by omega) (hR jt (by omega))
          have hh_84 := hE_8.hold (k := ja) (by omega) (hR ja (by omega))
          have hh_85 := hE_8.hold (k := jb) (by omega) (hR jb (by omega))
          refine lv_if_ne (tgt := 43) hx hb dX7_project_34 (by decide) (fun c_34 => ?_) (fun c_34 => ?_)
          · exact absurd (by decide) c_34
          refine lv_aload_n hx hb dX7_project_37 rfl (lv_at hl 0 rfl) ?_
          refine lv_iconst (v := nI 2) hx hb dX7_project_38 (by decide) ?_
          have hF9 := va_free (wc := [(o 0, .inr (2, mFs o th p0 q0 r0 mu_5 zz))]) hD hS (fun q h => hA q h) [0] rfl
          refine c_i (wr := [(o 5, .inl (dA 1, 2640, .inr (.inl fA_3))), (o 6, .inl (dA 1, 32, .inr (.inl fM_4)))]) (va_runV (As := [.int (nI 2)]) (rest := []) ⟨hx, hb, hml, hown, hts⟩ (x7_refuses Z (va_A [(o 0, .inr (2, mFs o th p0 q0 r0 mu_5 zz))] H.size) H.size (fun q h => Or.inr h) o th p0 q0 r0 mu_5 zz (nI 2)) (cwV 1 hts (lw_V q2100 q2102 qs34 q107 q2103) rfl rfl rfl (by decide +kernel) ⟨Nat.le_of_ble_eq_true rfl, Nat.le_of_ble_eq_true rfl⟩) (gP_V (va_recv hK hP (ci := 2) (q0 := 0) rfl rfl) hG hS (fun q _ h => hF9 q h) ⟨rfl, (hP.sub (ws' := [(o 0, .inr (2, mFs o th p0 q0 r0 mu_5 zz))]) [0] rfl), (hD.sub (ws' := [(o 0, .inr (2, mFs o th p0 q0 r0 mu_5 zz))]) [0] (by decide) rfl).self⟩) rfl rfl hl.1 rfl (lv_room (Nat.le_of_ble_eq_true rfl)) dX7_project_39 ⟨by first | decide | omega, by first | decide | omega⟩) hP hD hS hA [0] [1, 2] rfl rfl (by decide) (by decide) (fun r9 u9 H locs hq hX hz hk hP hD hS => ?_)
          obtain ⟨r_86, rfl⟩ : ∃ z, z = r9 := ⟨_, rfl⟩
          obtain rfl := hq
          have hP : va_P (dC, dI) vwCl [(o 5, .inl (dA 1, 2640, .inr (.inl fA_3))), (o 6, .inl (dA 1, 32, .inr (.inl fM_4))), (o 0, .inr (2, mFs o (nI 2) p0 q0 r0 mu_5 zz))] H := hP
          have hD : va_D A [(o 5, .inl (dA 1, 2640, .inr (.inl fA_3))), (o 6, .inl (dA 1, 32, .inr (.inl fM_4))), (o 0, .inr (2, mFs o (nI 2) p0 q0 r0 mu_5 zz))] := hD
          subst hQe
          exact W.iret (v := nI 0) hx hb hr (fun t ht hW => ⟨⟨_, (fA_3, fM_4, mu_5, nI 2), rfl, ModPost.mk0 (c := nI 2) (by simp [prjX, rgB, optC, h_t, h_a, h_b, e_8, rg_n (show jt < 8 by omega), rg_n (show ja < 8 by omega), rg_n (show jb < 8 by omega), nI_clamp (show jt < 2 ^ 31 by omega), nI_clamp (show ja < 2 ^ 31 by omega), nI_clamp (show jb < 2 ^ 31 by omega)]) (fun k9 hk9 i9 hi9 => by (try dsimp only [outH] at hk9); show fA_3 (33 * k9 + i9) = fA (33 * k9 + i9); rw [hE_8 k9 (by omega) i9 hi9]), B1_at ht (hP.sub [2, 0, 1] rfl) (hD.sub [2, 0, 1] (by decide) rfl) trivial⟩, hS.F ht⟩) hS.2.2 dX7_project_42
      · have h_b := bI_0 c_18
        refine lv_aload_n hx hb dX7_project_21 rfl (lv_at hl 0 rfl) ?_
        refine lv_iconst (v := nI 1) hx hb dX7_project_22 (by decide) ?_
        have hF9 := va_free (wc := [(o 0, .inr (2, mFs o th p0 q0 r0 mu zz))]) hD hS (fun q h => hA q h) [0] rfl
        refine c_i (wr := [(o 5, .inl (dA 1, 2640, .inr (.inl fA))), (o 6, .inl (dA 1, 32, .inr (.inl fM)))]) (va_runV (As := [.int (nI 1)]) (rest := []) ⟨hx, hb, hml, hown, hts⟩ (x7_refuses Z (va_A [(o 0, .inr (2, mFs o th p0 q0 r0 mu zz))] s.heap.size) s.heap.size (fun q h => Or.inr h) o th p0 q0 r0 mu zz (nI 1)) (cwV 1 hts (lw_V q2100 q2102 qs34 q107 q2103) rfl rfl rfl (by decide +kernel) ⟨Nat.le_of_ble_eq_true rfl, Nat.le_of_ble_eq_true rfl⟩) (gP_V (va_recv hK hP (ci := 2) (q0 := 0) rfl rfl) hG hS (fun q _ h => hF9 q h) ⟨rfl, (hP.sub (ws' := [(o 0, .inr (2, mFs o th p0 q0 r0 mu zz))]) [0] rfl), (hD.sub (ws' := [(o 0, .inr (2, mFs o th p0 q0 r0 mu zz))]) [0] (by decide) rfl).self⟩) rfl rfl hl.1 rfl (lv_room (Nat.le_of_ble_eq_true rfl)) dX7_project_23 ⟨by first | decide | omega, by first | decide | omega⟩) hP hD hS hA [0] [1, 2] rfl rfl (by decide) (by decide) (fun r9 u9 H locs hq hX hz hk hP hD hS => ?_)
        obtain ⟨r_87, rfl⟩ : ∃ z, z = r9 := ⟨_, rfl⟩
        obtain rfl := hq
        have hP : va_P (dC, dI) vwCl [(o 5, .inl (dA 1, 2640, .inr (.inl fA))), (o 6, .inl (dA 1, 32, .inr (.inl fM))), (o 0, .inr (2, mFs o (nI 1) p0 q0 r0 mu zz))] H := hP
        have hD : va_D A [(o 5, .inl (dA 1, 2640, .inr (.inl fA))), (o 6, .inl (dA 1, 32, .inr (.inl fM))), (o 0, .inr (2, mFs o (nI 1) p0 q0 r0 mu zz))] := hD
        subst hQe
        exact W.iret (v := nI 0) hx hb hr (fun t ht hW => ⟨⟨_, (fA, fM, mu, nI 1), rfl, ModPost.mk0 (c := nI 1) (by simp [prjX, rgB, optC, h_t, h_a, h_b, rg_n (show jt < 8 by omega), rg_n (show ja < 8 by omega), nI_clamp (show jt < 2 ^ 31 by omega), nI_clamp (show ja < 2 ^ 31 by omega)]) (fun k9 hk9 i9 hi9 => rfl), B1_at ht (hP.sub [2, 0, 1] rfl) (hD.sub [2, 0, 1] (by decide) rfl) trivial⟩, hS.F ht⟩) hS.2.2 dX7_project_26
