theorem vec_and {a : Nat} (h : a < 64) : nI a &&& (-3) = nI (a &&& 61) := by
  have : ∀ a, a < 64 → nI a &&& (-3) = nI (a &&& 61) := by decide +kernel
  exact this a h
set_option maxHeartbeats 4000000 in
theorem x7_laysSquare {l : Launch} {dC : Nat → ClassId} {dI : Nat → Nat → Nat} {dA : Nat → ClassId} {s0 : State} {b0 : Addr} (Z : Z0 l dC dI dA s0 b0) (A : Nat → Prop) (sz : Nat) (hA : ∀ q : Nat, sz ≤ q → A q) (o : Nat → Nat) (th : Int32) (p0 q0 r0 : Nat) (mu : Int64) (zz : Nat → Int32) (fA fM : Nat → Int64) (k1 k2 : Nat) (M : MV) (hn : p0 + q0 + r0 ≤ 5) (hk1 : k1 < 80) (hk2 : k2 < 80) (hne : k1 ≠ 31) (hne2 : k2 ≠ 31) (hM : Hold fA k1 M) (sM : MSm M) : Met l yX7_laysSquare (ws_ yX7_laysSquare cX7_laysSquare 3 (some .boolean)) ({ frames := 5, cells := 0, slots := 0, locals := 300 } : Room) (gP [.ref (o 0), .int (nI k1), .int (nI k2)] s0 A (fun H => H.size = sz ∧ va_P (dC, dI) vwCl [(o 0, .inr (2, mFs o th p0 q0 r0 mu zz)), (o 5, .inl (dA 1, 2640, .inr (.inl fA))), (o 6, .inl (dA 1, 32, .inr (.inl fM)))] H ∧ va_D A [(o 0, .inr (2, mFs o th p0 q0 r0 mu zz)), (o 5, .inl (dA 1, 2640, .inr (.inl fA))), (o 6, .inl (dA 1, 32, .inr (.inl fM)))])) (va_Qi (S := (Nat → Int64) × (Nat → Int64) × Int64) (fun r u => Hold u.1 31 (revS p0 q0 r0 M) ∧ ((∃ P, sqS p0 q0 r0 M = some P ∧ r = nI 1 ∧ Hold u.1 k2 P ∧ Kp fA u.1 (fun k => k ≠ 31 ∧ k ≠ k2)) ∨ (sqS p0 q0 r0 M = none ∧ r = nI 0 ∧ Kp fA u.1 (fun k => k ≠ 31)))) (B1 (dC, dI) A (fun u => mC dA o th p0 q0 r0 u.2.2 zz u.1 u.2.1) (fun _ _ => True)) A) 0 0 A := by
  refine Met.ofW (cc := cX7_laysSquare) (maxL := 3) (ret := (some .boolean)) (by decide) rfl ?_
  intro p e s m args below meth c s₁ B hml hv
  obtain ⟨hav, hG, hsz, hP, hD⟩ := hv
  have hx := B.exec
  have hb := B.bytes
  have hr := B.returns
  have hts := atoms_spec (ws := (ws_ yX7_laysSquare cX7_laysSquare 3 (some .boolean))) B.pre
  have hts : ∀ w ∈ lw_all, w.before _ s = true := fun w h => hts w (List.mem_cons_of_mem _ h)
  have hown : s.vm.findClass RX7 = some m.cls := findClass_of_methodNamed B.named
  have hlocks := B.notSynchronized
  have hK := hG.K Z
  subst hsz
  have hS : va_S A s.heap s.heap [] := va_S.rf
  have hl := lv_entry ([.ref (o 0), .int (nI k1), .int (nI k2)]) (n := 3) (Nat.le_of_ble_eq_true rfl)
  rw [show entryFrame m args 3 = entryFrame m ([.ref (o 0), .int (nI k1), .int (nI k2)] : List Value).toArray 3 from by rw [hav], lg_entry_eq]
  generalize (lg_sl ([.ref (o 0), .int (nI k1), .int (nI k2)]) ++ List.replicate (3 - (lg_sl ([.ref (o 0), .int (nI k1), .int (nI k2)])).length) Slot.unset).toArray = ls at hl ⊢
  have hl : lv_has ls 3 [(0, .ref (o 0)), (1, .int (nI k1)), (2, .int (nI k2))] := hl
  generalize hQe : MQ below _ _ s _ _ _ = Q
  change W p l e ({ frames := 5, cells := 0, slots := 0, locals := 300 } : Room) s m args below meth c s.heap [] 0 0 Q (F0 m 0 ls [])
  refine lv_aload_n hx hb dX7_laysSquare_0 rfl (lv_at hl 0 rfl) ?_
  refine lv_iconst (v := nI 0) hx hb dX7_laysSquare_1 (by decide) ?_
  refine lv_iload_n hx hb dX7_laysSquare_2 rfl (lv_at hl 1 rfl) ?_
  refine lv_bipush (v := nI 31) hx hb dX7_laysSquare_3 (by decide) ?_
  have hF9 := va_free (wc := [(o 0, .inr (2, mFs o th p0 q0 r0 mu zz)), (o 5, .inl (dA 1, 2640, .inr (.inl fA))), (o 6, .inl (dA 1, 32, .inr (.inl fM)))]) hD hS (fun q h => hA q h) [0, 1, 2] rfl
  refine c_v (wr := []) (va_runV (As := [.int (nI 0), .int (nI k1), .int (nI 31)]) (rest := []) ⟨hx, hb, hml, hown, hts⟩ (x7_turns Z (va_A [(o 0, .inr (2, mFs o th p0 q0 r0 mu zz)), (o 5, .inl (dA 1, 2640, .inr (.inl fA))), (o 6, .inl (dA 1, 32, .inr (.inl fM)))] s.heap.size) s.heap.size (fun q h => Or.inr h) o th p0 q0 r0 mu zz fA fM 0 k1 31 M hn (by omega) (by omega) (by omega) hM sM) (cwV 3 hts (lw_V q2143 q2145 qs42 q107 q2146) rfl rfl rfl (by decide +kernel) ⟨Nat.le_of_ble_eq_true rfl, Nat.le_of_ble_eq_true rfl⟩) (gP_V (va_recv hK hP (ci := 2) (q0 := 0) rfl rfl) hG hS (fun q _ h => hF9 q h) ⟨rfl, (hP.sub (ws' := [(o 0, .inr (2, mFs o th p0 q0 r0 mu zz)), (o 5, .inl (dA 1, 2640, .inr (.inl fA))), (o 6, .inl (dA 1, 32, .inr (.inl fM)))]) [0, 1, 2] rfl), (hD.sub (ws' := [(o 0, .inr (2, mFs o th p0 q0 r0 mu zz)), (o 5, .inl (dA 1, 2640, .inr (.inl fA))), (o 6, .inl (dA 1, 32, .inr (.inl fM)))]) [0, 1, 2] (by decide) rfl).self⟩) rfl rfl hl.1 rfl (lv_room (Nat.le_of_ble_eq_true rfl)) dX7_laysSquare_5 ⟨by first | decide | omega, by first | decide | omega⟩) hP hD hS hA [0, 1, 2] [] rfl rfl (by decide) (by decide) (fun u9 H locs hq hX hz hk hP hD hS => ?_)
  obtain ⟨fA_1, fM_2, mu_3⟩ := u9
  have hq_4 := hq
  try dsimp only at hq_4
  have hP : va_P (dC, dI) vwCl [(o 0, .inr (2, mFs o th p0 q0 r0 mu_3 zz)), (o 5, .inl (dA 1, 2640, .inr (.inl fA_1))), (o 6, .inl (dA 1, 32, .inr (.inl fM_2)))] H := hP
  have hD : va_D A [(o 0, .inr (2, mFs o th p0 q0 r0 mu_3 zz)), (o 5, .inl (dA 1, 2640, .inr (.inl fA_1))), (o 6, .inl (dA 1, 32, .inr (.inl fM_2)))] := hD
  obtain ⟨hH_k_5, hS_k_5⟩ := hq_4
  have sm_6 := trnS_sm (op := 0) (p := p0) (q := q0) (r := r0) (by omega) sM
  have hh_7 := hS_k_5.hold (j := k1) (by omega) hM
  refine lv_aload_n hx hb dX7_laysSquare_8 rfl (lv_at hl 0 rfl) ?_
  refine lv_iconst (v := nI 2) hx hb dX7_laysSquare_9 (by decide) ?_
  refine lv_iload_n hx hb dX7_laysSquare_10 rfl (lv_at hl 1 rfl) ?_
  refine lv_bipush (v := nI 31) hx hb dX7_laysSquare_11 (by decide) ?_
  refine lv_iload_n hx hb dX7_laysSquare_13 rfl (lv_at hl 2 rfl) ?_
  have hF9 := va_free (wc := [(o 0, .inr (2, mFs o th p0 q0 r0 mu_3 zz)), (o 5, .inl (dA 1, 2640, .inr (.inl fA_1))), (o 6, .inl (dA 1, 32, .inr (.inl fM_2)))]) hD hS (fun q h => hA q h) [0, 1, 2] rfl
  refine c_i (wr := []) (va_runV (As := [.int (nI 2), .int (nI k1), .int (nI 31), .int (nI k2)]) (rest := []) ⟨hx, hb, hml, hown, hts⟩ (x7_multiplies Z (va_A [(o 0, .inr (2, mFs o th p0 q0 r0 mu_3 zz)), (o 5, .inl (dA 1, 2640, .inr (.inl fA_1))), (o 6, .inl (dA 1, 32, .inr (.inl fM_2)))] H.size) H.size (fun q h => Or.inr h) o th p0 q0 r0 mu_3 zz fA_1 fM_2 2 k1 31 k2 M (trnS 0 p0 q0 r0 M) hn (by omega) (by omega) (by omega) (by omega) (by omega) hh_7 hH_k_5 sM sm_6) (cwV 4 hts (lw_V q2168 q2170 qs46 q107 q2171) rfl rfl rfl (by decide +kernel) ⟨Nat.le_of_ble_eq_true rfl, Nat.le_of_ble_eq_true rfl⟩) (gP_V (va_recv hK hP (ci := 2) (q0 := 0) rfl rfl) hG hS (fun q _ h => hF9 q h) ⟨rfl, (hP.sub (ws' := [(o 0, .inr (2, mFs o th p0 q0 r0 mu_3 zz)), (o 5, .inl (dA 1, 2640, .inr (.inl fA_1))), (o 6, .inl (dA 1, 32, .inr (.inl fM_2)))]) [0, 1, 2] rfl), (hD.sub (ws' := [(o 0, .inr (2, mFs o th p0 q0 r0 mu_3 zz)), (o 5, .inl (dA 1, 2640, .inr (.inl fA_1))), (o 6, .inl (dA 1, 32, .inr (.inl fM_2)))]) [0, 1, 2] (by decide) rfl).self⟩) rfl rfl hl.1 rfl (lv_room (Nat.le_of_ble_eq_true rfl)) dX7_laysSquare_14 ⟨by first | decide | omega, by first | decide | omega⟩) hP hD hS hA [0, 1, 2] [] rfl rfl (by decide) (by decide) (fun r9 u9 H locs hq hX hz hk hP hD hS => ?_)
  obtain ⟨fA_8, fM_9, mu_10⟩ := u9
  obtain ⟨r_11, rfl⟩ : ∃ z, z = r9 := ⟨_, rfl⟩
  have hq_12 := hq
  try dsimp only at hq_12
  have hP : va_P (dC, dI) vwCl [(o 0, .inr (2, mFs o th p0 q0 r0 mu_10 zz)), (o 5, .inl (dA 1, 2640, .inr (.inl fA_8))), (o 6, .inl (dA 1, 32, .inr (.inl fM_9)))] H := hP
  have hD : va_D A [(o 0, .inr (2, mFs o th p0 q0 r0 mu_10 zz)), (o 5, .inl (dA 1, 2640, .inr (.inl fA_8))), (o 6, .inl (dA 1, 32, .inr (.inl fM_9)))] := hD
  rcases hq_12.cases with ⟨P_13, e_13, rfl, hH_13, hS_13⟩ | ⟨e_13, rfl, hE_13⟩
  · have sm_14 : MSm P_13 := mulS_sm sM sm_6 e_13
    have hh_15 := hS_13.hold (j := 31) (by omega) hH_k_5
    subst hQe
    exact W.zret (v := nI 1) hx hb hr rfl (fun t ht hW => ⟨⟨_, (fA_8, fM_9, mu_10), rfl, ⟨hh_15, Or.inl ⟨P_13, e_13, rfl, hH_13, (fun k9 hk9 i9 hi9 => by (try dsimp only [outH] at hk9); show fA_8 (33 * k9 + i9) = fA (33 * k9 + i9); rw [hS_13 _ (by omega), hS_k_5 _ (by omega)])⟩⟩, B1_at ht (hP.sub [0, 1, 2] rfl) (hD.sub [0, 1, 2] (by decide) rfl) trivial⟩, hS.F ht⟩) hS.2.2 dX7_laysSquare_17
  · have hh_16 : Hold fA_8 k1 M := by rw [hE_13]; exact hh_7
    have hh_17 : Hold fA_8 31 (trnS 0 p0 q0 r0 M) := by rw [hE_13]; exact hH_k_5
    subst hQe
    exact W.zret (v := nI 0) hx hb hr rfl (fun t ht hW => ⟨⟨_, (fA_8, fM_9, mu_10), rfl, ⟨hh_17, Or.inr ⟨e_13, rfl, (fun k9 hk9 i9 hi9 => by (try dsimp only [outH] at hk9); show fA_8 (33 * k9 + i9) = fA (33 * k9 + i9); rw [hE_13, hS_k_5 _ (by omega)])⟩⟩, B1_at ht (hP.sub [0, 1, 2] rfl) (hD.sub [0, 1, 2] (by decide) rfl) trivial⟩, hS.F ht⟩) hS.2.2 dX7_laysSquare_17
set_option maxHeartbeats 4000000 in
theorem x7_meets {l : Launch} {dC : Nat → ClassId} {dI : Nat → Nat → Nat} {dA : Nat → ClassId} {s0 : State} {b0 : Addr} (Z : Z0 l dC dI dA s0 b0) (A : Nat → Prop) (sz : Nat) (hA : ∀ q : Nat, sz ≤ q → A q) (o : Nat → Nat) (th : Int32) (p0 q0 r0 : Nat) (mu : Int64) (zz : Nat → Int32) (fA fM : Nat → Int64) (k1 k2 k3 : Nat) (M N : MV) (hn : p0 + q0 + r0 ≤ 5) (hk1 : outH k1) (hk2 : outH k2) (hk3 : k3 = 24 ∨ 32 ≤ k3) (h11 : k1 < 80) (h12 : k2 < 80) (h13 : k3 < 80) (hM : Hold fA k1 M) (hN : Hold fA k2 N) (sM : MSm M) (sN : MSm N) : Met l yX7_meets (ws_ yX7_meets cX7_meets 5 (some .boolean)) ({ frames := 5, cells := 0, slots := 0, locals := 300 } : Room) (gP [.ref (o 0), .int (nI k1), .int (nI k2), .int (nI k3)] s0 A (fun H => H.size = sz ∧ va_P (dC, dI) vwCl [(o 0, .inr (2, mFs o th p0 q0 r0 mu zz)), (o 5, .inl (dA 1, 2640, .inr (.inl fA))), (o 6, .inl (dA 1, 32, .inr (.inl fM)))] H ∧ va_D A [(o 0, .inr (2, mFs o th p0 q0 r0 mu zz)), (o 5, .inl (dA 1, 2640, .inr (.inl fA))), (o 6, .inl (dA 1, 32, .inr (.inl fM)))])) (va_Qi (S := (Nat → Int64) × (Nat → Int64) × Int64) (fun r u => OpPost fA k3 (meetS p0 q0 r0 M N) r u.1) (B1 (dC, dI) A (fun u => mC dA o th p0 q0 r0 u.2.2 zz u.1 u.2.1) (fun _ _ => True)) A) 0 0 A := by
  refine Met.ofW (cc := cX7_meets) (maxL := 5) (ret := (some .boolean)) (by decide) rfl ?_
  intro p e s m args below meth c s₁ B hml hv
  obtain ⟨hav, hG, hsz, hP, hD⟩ := hv
  have hx := B.exec
  have hb := B.bytes
  have hr := B.returns
  have hts := atoms_spec (ws := (ws_ yX7_meets cX7_meets 5 (some .boolean))) B.pre
  have hts : ∀ w ∈ lw_all, w.before _ s = true := fun w h => hts w (List.mem_cons_of_mem _ h)
  have hown : s.vm.findClass RX7 = some m.cls := findClass_of_methodNamed B.named
  have hlocks := B.notSynchronized
  have hK := hG.K Z
  subst hsz
  have hS : va_S A s.heap s.heap [] := va_S.rf
  have hl := lv_entry ([.ref (o 0), .int (nI k1), .int (nI k2), .int (nI k3)]) (n := 5) (Nat.le_of_ble_eq_true rfl)
  rw [show entryFrame m args 5 = entryFrame m ([.ref (o 0), .int (nI k1), .int (nI k2), .int (nI k3)] : List Value).toArray 5 from by rw [hav], lg_entry_eq]
  generalize (lg_sl ([.ref (o 0), .int (nI k1), .int (nI k2), .int (nI k3)]) ++ List.replicate (5 - (lg_sl ([.ref (o 0), .int (nI k1), .int (nI k2), .int (nI k3)])).length) Slot.unset).toArray = ls at hl ⊢
  have hl : lv_has ls 5 [(0, .ref (o 0)), (1, .int (nI k1)), (2, .int (nI k2)), (3, .int (nI k3))] := hl
  generalize hQe : MQ below _ _ s _ _ _ = Q
  change W p l e ({ frames := 5, cells := 0, slots := 0, locals := 300 } : Room) s m args below meth c s.heap [] 0 0 Q (F0 m 0 ls [])
  refine lv_aload_n hx hb dX7_meets_0 rfl (lv_at hl 0 rfl) ?_
  refine lv_iconst (v := nI 3) hx hb dX7_meets_1 (by decide) ?_
  refine lv_iload_n hx hb dX7_meets_2 rfl (lv_at hl 1 rfl) ?_
  refine lv_bipush (v := nI 25) hx hb dX7_meets_3 (by decide) ?_
  have hF9 := va_free (wc := [(o 0, .inr (2, mFs o th p0 q0 r0 mu zz)), (o 5, .inl (dA 1, 2640, .inr (.inl fA))), (o 6, .inl (dA 1, 32, .inr (.inl fM)))]) hD hS (fun q h => hA q h) [0, 1, 2] rfl
  refine c_v (wr := []) (va_runV (As := [.int (nI 3), .int (nI k1), .int (nI 25)]) (rest := []) ⟨hx, hb, hml, hown, hts⟩ (x7_turns Z (va_A [(o 0, .inr (2, mFs o th p0 q0 r0 mu zz)), (o 5, .inl (dA 1, 2640, .inr (.inl fA))), (o 6, .inl (dA 1, 32, .inr (.inl fM)))] s.heap.size) s.heap.size (fun q h => Or.inr h) o th p0 q0 r0 mu zz fA fM 3 k1 25 M hn (by omega) (by omega) (by omega) hM sM) (cwV 3 hts (lw_V q2143 q2145 qs42 q107 q2146) rfl rfl rfl (by decide +kernel) ⟨Nat.le_of_ble_eq_true rfl, Nat.le_of_ble_eq_true rfl⟩) (gP_V (va_recv hK hP (ci := 2) (q0 := 0) rfl rfl) hG hS (fun q _ h => hF9 q h) ⟨rfl, (hP.sub (ws' := [(o 0, .inr (2, mFs o th p0 q0 r0 mu zz)), (o 5, .inl (dA 1, 2640, .inr (.inl fA))), (o 6, .inl (dA 1, 32, .inr (.inl fM)))]) [0, 1, 2] rfl), (hD.sub (ws' := [(o 0, .inr (2, mFs o th p0 q0 r0 mu zz)), (o 5, .inl (dA 1, 2640, .inr (.inl fA))), (o 6, .inl (dA 1, 32, .inr (.inl fM)))]) [0, 1, 2] (by decide) rfl).self⟩) rfl rfl hl.1 rfl (lv_room (Nat.le_of_ble_eq_true rfl)) dX7_meets_5 ⟨by first | decide | omega, by first | decide | omega⟩) hP hD hS hA [0, 1, 2] [] rfl rfl (by decide) (by decide) (fun u9 H locs hq hX hz hk hP hD hS => ?_)
  obtain ⟨fA_1, fM_2, mu_3⟩ := u9
  have hq_4 := hq
  try dsimp only at hq_4
  have hP : va_P (dC, dI) vwCl [(o 0, .inr (2, mFs o th p0 q0 r0 mu_3 zz)), (o 5, .inl (dA 1, 2640, .inr (.inl fA_1))), (o 6, .inl (dA 1, 32, .inr (.inl fM_2)))] H := hP
  have hD : va_D A [(o 0, .inr (2, mFs o th p0 q0 r0 mu_3 zz)), (o 5, .inl (dA 1, 2640, .inr (.inl fA_1))), (o 6, .inl (dA 1, 32, .inr (.inl fM_2)))] := hD
  obtain ⟨hH_k_5, hS_k_5⟩ := hq_4
  have sm_6 := trnS_sm (op := 3) (p := p0) (q := q0) (r := r0) (by omega) sM
  have hh_7 := hS_k_5.hold (j := k1) (by omega) hM
  have hh_8 := hS_k_5.hold (j := k2) (by omega) hN
  refine lv_aload_n hx hb dX7_meets_8 rfl (lv_at hl 0 rfl) ?_
  refine lv_iconst (v := nI 3) hx hb dX7_meets_9 (by decide) ?_
  refine lv_iload_n hx hb dX7_meets_10 rfl (lv_at hl 2 rfl) ?_
  refine lv_bipush (v := nI 26) hx hb dX7_meets_11 (by decide) ?_
  have hF9 := va_free (wc := [(o 0, .inr (2, mFs o th p0 q0 r0 mu_3 zz)), (o 5, .inl (dA 1, 2640, .inr (.inl fA_1))), (o 6, .inl (dA 1, 32, .inr (.inl fM_2)))]) hD hS (fun q h => hA q h) [0, 1, 2] rfl
  refine c_v (wr := []) (va_runV (As := [.int (nI 3), .int (nI k2), .int (nI 26)]) (rest := []) ⟨hx, hb, hml, hown, hts⟩ (x7_turns Z (va_A [(o 0, .inr (2, mFs o th p0 q0 r0 mu_3 zz)), (o 5, .inl (dA 1, 2640, .inr (.inl fA_1))), (o 6, .inl (dA 1, 32, .inr (.inl fM_2)))] H.size) H.size (fun q h => Or.inr h) o th p0 q0 r0 mu_3 zz fA_1 fM_2 3 k2 26 N hn (by omega) (by omega) (by omega) hh_8 sN) (cwV 3 hts (lw_V q2143 q2145 qs42 q107 q2146) rfl rfl rfl (by decide +kernel) ⟨Nat.le_of_ble_eq_true rfl, Nat.le_of_ble_eq_true rfl⟩) (gP_V (va_recv hK hP (ci := 2) (q0 := 0) rfl rfl) hG hS (fun q _ h => hF9 q h) ⟨rfl, (hP.sub (ws' := [(o 0, .inr (2, mFs o th p0 q0 r0 mu_3 zz)), (o 5, .inl (dA 1, 2640, .inr (.inl fA_1))), (o 6, .inl (dA 1, 32, .inr (.inl fM_2)))]) [0, 1, 2] rfl), (hD.sub (ws' := [(o 0, .inr (2, mFs o th p0 q0 r0 mu_3 zz)), (o 5, .inl (dA 1, 2640, .inr (.inl fA_1))), (o 6, .inl (dA 1, 32, .inr (.inl fM_2)))]) [0, 1, 2] (by decide) rfl).self⟩) rfl rfl hl.1 rfl (lv_room (Nat.le_of_ble_eq_true rfl)) dX7_meets_13 ⟨by first | decide | omega, by first | decide | omega⟩) hP hD hS hA [0, 1, 2] [] rfl rfl (by decide) (by decide) (fun u9 H locs hq hX hz hk hP hD hS => ?_)
  obtain ⟨fA_9, fM_10, mu_11⟩ := u9
  have hq_12 := hq
  try dsimp only at hq_12
  have hP : va_P (dC, dI) vwCl [(o 0, .inr (2, mFs o th p0 q0 r0 mu_11 zz)), (o 5, .inl (dA 1, 2640, .inr (.inl fA_9))), (o 6, .inl (dA 1, 32, .inr (.inl fM_10)))] H := hP
  have hD : va_D A [(o 0, .inr (2, mFs o th p0 q0 r0 mu_11 zz)), (o 5, .inl (dA 1, 2640, .inr (.inl fA_9))), (o 6, .inl (dA 1, 32, .inr (.inl fM_10)))] := hD
  obtain ⟨hH_k_13, hS_k_13⟩ := hq_12
  have sm_14 := trnS_sm (op := 3) (p := p0) (q := q0) (r := r0) (by omega) sN
  have hh_15 := hS_k_13.hold (j := k1) (by omega) hh_7
  have hh_16 := hS_k_13.hold (j := k2) (by omega) hh_8
  have hh_17 := hS_k_13.hold (j := 25) (by omega) hH_k_5
  refine lv_aload_n hx hb dX7_meets_16 rfl (lv_at hl 0 rfl) ?_
  refine lv_iconst (v := nI 3) hx hb dX7_meets_17 (by decide) ?_
  refine lv_bipush (v := nI 25) hx hb dX7_meets_18 (by decide) ?_
  refine lv_bipush (v := nI 26) hx hb dX7_meets_20 (by decide) ?_
  refine lv_bipush (v := nI 27) hx hb dX7_meets_22 (by decide) ?_
  have hF9 := va_free (wc := [(o 0, .inr (2, mFs o th p0 q0 r0 mu_11 zz)), (o 5, .inl (dA 1, 2640, .inr (.inl fA_9))), (o 6, .inl (dA 1, 32, .inr (.inl fM_10)))]) hD hS (fun q h => hA q h) [0, 1, 2] rfl
  refine c_i (wr := []) (va_runV (As := [.int (nI 3), .int (nI 25), .int (nI 26), .int (nI 27)]) (rest := []) ⟨hx, hb, hml, hown, hts⟩ (x7_multiplies Z (va_A [(o 0, .inr (2, mFs o th p0 q0 r0 mu_11 zz)), (o 5, .inl (dA 1, 2640, .inr (.inl fA_9))), (o 6, .inl (dA 1, 32, .inr (.inl fM_10)))] H.size) H.size (fun q h => Or.inr h) o th p0 q0 r0 mu_11 zz fA_9 fM_10 3 25 26 27 (trnS 3 p0 q0 r0 M) (trnS 3 p0 q0 r0 N) hn (by omega) (by omega) (by omega) (by omega) (by omega) hh_17 hH_k_13 sm_6 sm_14) (cwV 4 hts (lw_V q2168 q2170 qs46 q107 q2171) rfl rfl rfl (by decide +kernel) ⟨Nat.le_of_ble_eq_true rfl, Nat.le_of_ble_eq_true rfl⟩) (gP_V (va_recv hK hP (ci := 2) (q0 := 0) rfl rfl) hG hS (fun q _ h => hF9 q h) ⟨rfl, (hP.sub (ws' := [(o 0, .inr (2, mFs o th p0 q0 r0 mu_11 zz)), (o 5, .inl (dA 1, 2640, .inr (.inl fA_9))), (o 6, .inl (dA 1, 32, .inr (.inl fM_10)))]) [0, 1, 2] rfl), (hD.sub (ws' := [(o 0, .inr (2, mFs o th p0 q0 r0 mu_11 zz)), (o 5, .inl (dA 1, 2640, .inr (.inl fA_9))), (o 6, .inl (dA 1, 32, .inr (.inl fM_10)))]) [0, 1, 2] (by decide) rfl).self⟩) rfl rfl hl.1 rfl (lv_room (Nat.le_of_ble_eq_true rfl)) dX7_meets_24 ⟨by first | decide | omega, by first | decide | omega⟩) hP hD hS hA [0, 1, 2] [] rfl rfl (by decide) (by decide) (fun r9 u9 H locs hq hX hz hk hP hD hS => ?_)
  obtain ⟨fA_18, fM_19, mu_20⟩ := u9
  obtain ⟨r_21, rfl⟩ : ∃ z, z = r9 := ⟨_, rfl⟩
  have hq_22 := hq
  try dsimp only at hq_22
  have hP : va_P (dC, dI) vwCl [(o 0, .inr (2, mFs o th p0 q0 r0 mu_20 zz)), (o 5, .inl (dA 1, 2640, .inr (.inl fA_18))), (o 6, .inl (dA 1, 32, .inr (.inl fM_19)))] H := hP
  have hD : va_D A [(o 0, .inr (2, mFs o th p0 q0 r0 mu_20 zz)), (o 5, .inl (dA 1, 2640, .inr (.inl fA_18))), (o 6, .inl (dA 1, 32, .inr (.inl fM_19)))] := hD
  rcases hq_22.cases with ⟨P_23, e_23, rfl, hH_23, hS_23⟩ | ⟨e_23, rfl, hE_23⟩
  · have sm_24 : MSm P_23 := mulS_sm sm_6 sm_14 e_23
    have hh_25 := hS_23.hold (j := k1) (by omega) hh_15
    have hh_26 := hS_23.hold (j := k2) (by omega) hh_16
    have hh_27 := hS_23.hold (j := 25) (by omega) hh_17
    have hh_28 := hS_23.hold (j := 26) (by omega) hH_k_13
    refine lv_istore (lv' := [(4, .int (nI 1)), (0, .ref (o 0)), (1, .int (nI k1)), (2, .int (nI k2)), (3, .int (nI k3))]) hx hb dX7_meets_27 hl (by decide) rfl (fun ls hl => ?_)
    refine lv_iload hx hb dX7_meets_29 (lv_at hl 0 rfl) ?_
    refine lv_if_eq (tgt := 42) hx hb dX7_meets_31 (by decide) (fun c_31 => ?_) (fun c_31 => ?_)
    · exact absurd c_31 (by decide)
    refine lv_aload_n hx hb dX7_meets_34 rfl (lv_at hl 1 rfl) ?_
    refine lv_iconst (v := nI 4) hx hb dX7_meets_35 (by decide) ?_
    refine lv_bipush (v := nI 27) hx hb dX7_meets_36 (by decide) ?_
    refine lv_iload_n hx hb dX7_meets_38 rfl (lv_at hl 4 rfl) ?_
    have hF9 := va_free (wc := [(o 0, .inr (2, mFs o th p0 q0 r0 mu_20 zz)), (o 5, .inl (dA 1, 2640, .inr (.inl fA_18))), (o 6, .inl (dA 1, 32, .inr (.inl fM_19)))]) hD hS (fun q h => hA q h) [0, 1, 2] rfl
    refine c_v (wr := []) (va_runV (As := [.int (nI 4), .int (nI 27), .int (nI k3)]) (rest := []) ⟨hx, hb, hml, hown, hts⟩ (x7_turns Z (va_A [(o 0, .inr (2, mFs o th p0 q0 r0 mu_20 zz)), (o 5, .inl (dA 1, 2640, .inr (.inl fA_18))), (o 6, .inl (dA 1, 32, .inr (.inl fM_19)))] H.size) H.size (fun q h => Or.inr h) o th p0 q0 r0 mu_20 zz fA_18 fM_19 4 27 k3 P_23 hn (by omega) (by omega) (by omega) hH_23 sm_24) (cwV 3 hts (lw_V q2143 q2145 qs42 q107 q2146) rfl rfl rfl (by decide +kernel) ⟨Nat.le_of_ble_eq_true rfl, Nat.le_of_ble_eq_true rfl⟩) (gP_V (va_recv hK hP (ci := 2) (q0 := 0) rfl rfl) hG hS (fun q _ h => hF9 q h) ⟨rfl, (hP.sub (ws' := [(o 0, .inr (2, mFs o th p0 q0 r0 mu_20 zz)), (o 5, .inl (dA 1, 2640, .inr (.inl fA_18))), (o 6, .inl (dA 1, 32, .inr (.inl fM_19)))]) [0, 1, 2] rfl), (hD.sub (ws' := [(o 0, .inr (2, mFs o th p0 q0 r0 mu_20 zz)), (o 5, .inl (dA 1, 2640, .inr (.inl fA_18))), (o 6, .inl (dA 1, 32, .inr (.inl fM_19)))]) [0, 1, 2] (by decide) rfl).self⟩) rfl rfl hl.1 rfl (lv_room (Nat.le_of_ble_eq_true rfl)) dX7_meets_39 ⟨by first | decide | omega, by first | decide | omega⟩) hP hD hS hA [0, 1, 2] [] rfl rfl (by decide) (by decide) (fun u9 H locs hq hX hz hk hP hD hS => ?_)
    obtain ⟨fA_29, fM_30, mu_31⟩ := u9
    have hq_32 := hq
    try dsimp only at hq_32
    have hP : va_P (dC, dI) vwCl [(o 0, .inr (2, mFs o th p0 q0 r0 mu_31 zz)), (o 5, .inl (dA 1, 2640, .inr (.inl fA_29))), (o 6, .inl (dA 1, 32, .inr (.inl fM_30)))] H := hP
    have hD : va_D A [(o 0, .inr (2, mFs o th p0 q0 r0 mu_31 zz)), (o 5, .inl (dA 1, 2640, .inr (.inl fA_29))), (o 6, .inl (dA 1, 32, .inr (.inl fM_30)))] := hD
    obtain ⟨hH_k_33, hS_k_33⟩ := hq_32
    have sm_34 := trnS_sm (op := 4) (p := p0) (q := q0) (r := r0) (by omega) sm_24
    have hh_35 := hS_k_33.hold (j := 25) (by omega) hh_27
    have hh_36 := hS_k_33.hold (j := 26) (by omega) hh_28
    have hh_37 := hS_k_33.hold (j := 27) (by omega) hH_23
    refine lv_iload hx hb dX7_meets_42 (lv_at hl 0 rfl) ?_
    subst hQe
    exact W.zret (v := nI 1) hx hb hr rfl (fun t ht hW => ⟨⟨_, (fA_29, fM_30, mu_31), rfl, OpPost.mk1 (P := (trnS 4 p0 q0 r0 P_23)) (by simp only [meetS, e_23]) hH_k_33 (fun k9 hk9 i9 hi9 => by (try dsimp only [outH] at hk9); show fA_29 (33 * k9 + i9) = fA (33 * k9 + i9); rw [hS_k_33 _ (by omega), hS_23 _ (by omega), hS_k_13 _ (by omega), hS_k_5 _ (by omega)]), B1_at ht (hP.sub [0, 1, 2] rfl) (hD.sub [0, 1, 2] (by decide) rfl) trivial⟩, hS.F ht⟩) hS.2.2 dX7_meets_44
  · have hh_38 : Hold fA_18 k1 M := by rw [hE_23]; exact hh_15
    have hh_39 : Hold fA_18 k2 N := by rw [hE_23]; exact hh_16
    have hh_40 : Hold fA_18 25 (trnS 3 p0 q0 r0 M) := by rw [hE_23]; exact hh_17
    have hh_41 : Hold fA_18 26 (trnS 3 p0 q0 r0 N) := by rw [hE_23]; exact hH_k_13
    refine lv_istore (lv' := [(4, .int (nI 0)), (0, .ref (o 0)), (1, .int (nI k1)), (2, .int (nI k2)), (3, .int (nI k3))]) hx hb dX7_meets_27 hl (by decide) rfl (fun ls hl => ?_)
    refine lv_iload hx hb dX7_meets_29 (lv_at hl 0 rfl) ?_
    refine lv_if_eq (tgt := 42) hx hb dX7_meets_31 (by decide) (fun c_31 => ?_) (fun c_31 => ?_)
    rotate_left
    · exact absurd (by decide) c_31
    refine lv_iload hx hb dX7_meets_42 (lv_at hl 0 rfl) ?_
    subst hQe
    exact W.zret (v := nI 0) hx hb hr rfl (fun t ht hW => ⟨⟨_, (fA_18, fM_19, mu_20), rfl, OpPost.mk0 (by simp only [meetS, e_23]) (fun k9 hk9 i9 hi9 => by (try dsimp only [outH] at hk9); show fA_18 (33 * k9 + i9) = fA (33 * k9 + i9); rw [hE_23, hS_k_13 _ (by omega), hS_k_5 _ (by omega)]), B1_at ht (hP.sub [0, 1, 2] rfl) (hD.sub [0, 1, 2] (by decide) rfl) trivial⟩, hS.F ht⟩) hS.2.2 dX7_meets_44
set_option maxHeartbeats 4000000 in
theorem x7_carriesOut {l : Launch} {dC : Nat → ClassId} {dI : Nat → Nat → Nat} {dA : Nat → ClassId} {s0 : State} {b0 : Addr} (Z : Z0 l dC dI dA s0 b0) (A : Nat → Prop) (sz : Nat) (hA : ∀ q : Nat, sz ≤ q → A q) (o : Nat → Nat) (th : Int32) (p0 q0 r0 : Nat) (mu : Int64) (zz : Nat → Int32) (fA fM : Nat → Int64) (op k1 k2 k3 : Nat) (M N : MV) (hn : p0 + q0 + r0 ≤ 5) (hop : op ≤ 8) (hk1 : outH k1) (hk2 : outH k2) (hk3 : k3 = 24 ∨ 32 ≤ k3) (h11 : k1 < 80) (h12 : k2 < 80) (h13 : k3 < 80) (hM : Hold fA k1 M) (hN : Hold fA k2 N) (sM : MSm M) (sN : MSm N) : Met l yX7_carriesOut (ws_ yX7_carriesOut cX7_carriesOut 5 (some .boolean)) ({ frames := 6, cells := 0, slots := 0, locals := 360 } : Room) (gP [.ref (o 0), .int (nI op), .int (nI k1), .int (nI k2), .int (nI k3)] s0 A (fun H => H.size = sz ∧ va_P (dC, dI) vwCl [(o 0, .inr (2, mFs o th p0 q0 r0 mu zz)), (o 5, .inl (dA 1, 2640, .inr (.inl fA))), (o 6, .inl (dA 1, 32, .inr (.inl fM)))] H ∧ va_D A [(o 0, .inr (2, mFs o th p0 q0 r0 mu zz)), (o 5, .inl (dA 1, 2640, .inr (.inl fA))), (o 6, .inl (dA 1, 32, .inr (.inl fM)))])) (va_Qi (S := (Nat → Int64) × (Nat → Int64) × Int64) (fun r u => OpPost fA k3 (cmbS op p0 q0 r0 M N) r u.1) (B1 (dC, dI) A (fun u => mC dA o th p0 q0 r0 u.2.2 zz u.1 u.2.1) (fun _ _ => True)) A) 0 0 A := by
  refine Met.ofW (cc := cX7_carriesOut) (maxL := 5) (ret := (some .boolean)) (by decide) rfl ?_
  intro p e s m args below meth c s₁ B hml hv
  obtain ⟨hav, hG, hsz, hP, hD⟩ := hv
  have hx := B.exec
  have hb := B.bytes
  have hr := B.returns
  have hts := atoms_spec (ws := (ws_ yX7_carriesOut cX7_carriesOut 5 (some .boolean))) B.pre
  have hts : ∀ w ∈ lw_all, w.before _ s = true := fun w h => hts w (List.mem_cons_of_mem _ h)
  have hown : s.vm.findClass RX7 = some m.cls := findClass_of_methodNamed B.named
  have hlocks := B.notSynchronized
  have hK := hG.K Z
  subst hsz
  have hS : va_S A s.heap s.heap [] := va_S.rf
  have hl := lv_entry ([.ref (o 0), .int (nI op), .int (nI k1), .int (nI k2), .int (nI k3)]) (n := 5) (Nat.le_of_ble_eq_true rfl)
  rw [show entryFrame m args 5 = entryFrame m ([.ref (o 0), .int (nI op), .int (nI k1), .int (nI k2), .int (nI k3)] : List Value).toArray 5 from by rw [hav], lg_entry_eq]
  generalize (lg_sl ([.ref (o 0), .int (nI op), .int (nI k1), .int (nI k2), .int (nI k3)]) ++ List.replicate (5 - (lg_sl ([.ref (o 0), .int (nI op), .int (nI k1), .int (nI k2), .int (nI k3)])).length) Slot.unset).toArray = ls at hl ⊢
  have hl : lv_has ls 5 [(0, .ref (o 0)), (1, .int (nI op)), (2, .int (nI k1)), (3, .int (nI k2)), (4, .int (nI k3))] := hl
  generalize hQe : MQ below _ _ s _ _ _ = Q
  change W p l e ({ frames := 6, cells := 0, slots := 0, locals := 360 } : Room) s m args below meth c s.heap [] 0 0 Q (F0 m 0 ls [])
  refine lv_iload_n hx hb dX7_carriesOut_0 rfl (lv_at hl 1 rfl) ?_
  rcases (show op = 0 ∨ op = 1 ∨ op = 2 ∨ op = 3 ∨ op = 4 ∨ op = 5 ∨ op = 6 ∨ op = 7 ∨ op = 8 by omega) with rfl | rfl | rfl | rfl | rfl | rfl | rfl | rfl | rfl
  · refine lv_tableIn (off := 51) (tgt := 52) hx hb dX7_carriesOut_1 (by decide) (by decide) rfl (by decide) ?_
    refine lv_aload_n hx hb dX7_carriesOut_52 rfl (lv_at hl 0 rfl) ?_
    refine lv_iload_n hx hb dX7_carriesOut_53 rfl (lv_at hl 2 rfl) ?_
    refine lv_iload_n hx hb dX7_carriesOut_54 rfl (lv_at hl 3 rfl) ?_
    refine lv_iconst (v := nI 1) hx hb dX7_carriesOut_55 (by decide) ?_
    refine lv_iload hx hb dX7_carriesOut_56 (lv_at hl 4 rfl) ?_
    have hF9 := va_free (wc := [(o 0, .inr (2, mFs o th p0 q0 r0 mu zz)), (o 5, .inl (dA 1, 2640, .inr (.inl fA))), (o 6, .inl (dA 1, 32, .inr (.inl fM)))]) hD hS (fun q h => hA q h) [0, 1, 2] rfl
    refine c_i (wr := []) (va_runV (As := [.int (nI k1), .int (nI k2), .int (nI 1), .int (nI k3)]) (rest := []) ⟨hx, hb, hml, hown, hts⟩ (x7_adds Z (va_A [(o 0, .inr (2, mFs o th p0 q0 r0 mu zz)), (o 5, .inl (dA 1, 2640, .inr (.inl fA))), (o 6, .inl (dA 1, 32, .inr (.inl fM)))] s.heap.size) s.heap.size (fun q h => Or.inr h) o th p0 q0 r0 mu zz fA fM k1 k2 k3 (nI 1) M N (Or.inl rfl) (by omega) (by omega) (by omega) hM hN sM sN) (cwV 4 hts (lw_V q2111 q2113 qs36 q107 q2114) rfl rfl rfl (by decide +kernel) ⟨Nat.le_of_ble_eq_true rfl, Nat.le_of_ble_eq_true rfl⟩) (gP_V (va_recv hK hP (ci := 2) (q0 := 0) rfl rfl) hG hS (fun q _ h => hF9 q h) ⟨rfl, (hP.sub (ws' := [(o 0, .inr (2, mFs o th p0 q0 r0 mu zz)), (o 5, .inl (dA 1, 2640, .inr (.inl fA))), (o 6, .inl (dA 1, 32, .inr (.inl fM)))]) [0, 1, 2] rfl), (hD.sub (ws' := [(o 0, .inr (2, mFs o th p0 q0 r0 mu zz)), (o 5, .inl (dA 1, 2640, .inr (.inl fA))), (o 6, .inl (dA 1, 32, .inr (.inl fM)))]) [0, 1, 2] (by decide) rfl).self⟩) rfl rfl hl.1 rfl (lv_room (Nat.le_of_ble_eq_true rfl)) dX7_carriesOut_58 ⟨by first | decide | omega, by first | decide | omega⟩) hP hD hS hA [0, 1, 2] [] rfl rfl (by decide) (by decide) (fun r9 u9 H locs hq hX hz hk hP hD hS => ?_)
    obtain ⟨fA_1, fM_2, mu_3⟩ := u9
    obtain ⟨r_4, rfl⟩ : ∃ z, z = r9 := ⟨_, rfl⟩
    have hq_5 := hq
    try dsimp only at hq_5
    have hP : va_P (dC, dI) vwCl [(o 0, .inr (2, mFs o th p0 q0 r0 mu_3 zz)), (o 5, .inl (dA 1, 2640, .inr (.inl fA_1))), (o 6, .inl (dA 1, 32, .inr (.inl fM_2)))] H := hP
    have hD : va_D A [(o 0, .inr (2, mFs o th p0 q0 r0 mu_3 zz)), (o 5, .inl (dA 1, 2640, .inr (.inl fA_1))), (o 6, .inl (dA 1, 32, .inr (.inl fM_2)))] := hD
    rcases hq_5.cases with ⟨P_6, e_6, rfl, hH_6, hS_6⟩ | ⟨e_6, rfl, hE_6⟩
    · have sm_7 : MSm P_6 := addS_sm sM sN e_6
      subst hQe
      exact W.zret (v := nI 1) hx hb hr rfl (fun t ht hW => ⟨⟨_, (fA_1, fM_2, mu_3), rfl, OpPost.mk1 (P := P_6) e_6 hH_6 (fun k9 hk9 i9 hi9 => by (try dsimp only [outH] at hk9); show fA_1 (33 * k9 + i9) = fA (33 * k9 + i9); rw [hS_6 _ (by omega)]), B1_at ht (hP.sub [0, 1, 2] rfl) (hD.sub [0, 1, 2] (by decide) rfl) trivial⟩, hS.F ht⟩) hS.2.2 dX7_carriesOut_61
    · have hh_8 : Hold fA_1 k1 M := by rw [hE_6]; exact hM
      have hh_9 : Hold fA_1 k2 N := by rw [hE_6]; exact hN
      subst hQe
      exact W.zret (v := nI 0) hx hb hr rfl (fun t ht hW => ⟨⟨_, (fA_1, fM_2, mu_3), rfl, OpPost.mk0 e_6 (fun k9 hk9 i9 hi9 => by (try dsimp only [outH] at hk9); show fA_1 (33 * k9 + i9) = fA (33 * k9 + i9); rw [hE_6]), B1_at ht (hP.sub [0, 1, 2] rfl) (hD.sub [0, 1, 2] (by decide) rfl) trivial⟩, hS.F ht⟩) hS.2.2 dX7_carriesOut_61
  · refine lv_tableIn (off := 61) (tgt := 62) hx hb dX7_carriesOut_1 (by decide) (by decide) rfl (by decide) ?_
    refine lv_aload_n hx hb dX7_carriesOut_62 rfl (lv_at hl 0 rfl) ?_
    refine lv_iload_n hx hb dX7_carriesOut_63 rfl (lv_at hl 2 rfl) ?_
    refine lv_iload_n hx hb dX7_carriesOut_64 rfl (lv_at hl 3 rfl) ?_
    refine lv_iconst (v := (-1)) hx hb dX7_carriesOut_65 (by decide) ?_
    refine lv_iload hx hb dX7_carriesOut_66 (lv_at hl 4 rfl) ?_
    have hF9 := va_free (wc := [(o 0, .inr (2, mFs o th p0 q0 r0 mu zz)), (o 5, .inl (dA 1, 2640, .inr (.inl fA))), (o 6, .inl (dA 1, 32, .inr (.inl fM)))]) hD hS (fun q h => hA q h) [0, 1, 2] rfl
    refine c_i (wr := []) (va_runV (As := [.int (nI k1), .int (nI k2), .int (-1), .int (nI k3)]) (rest := []) ⟨hx, hb, hml, hown, hts⟩ (x7_adds Z (va_A [(o 0, .inr (2, mFs o th p0 q0 r0 mu zz)), (o 5, .inl (dA 1, 2640, .inr (.inl fA))), (o 6, .inl (dA 1, 32, .inr (.inl fM)))] s.heap.size) s.heap.size (fun q h => Or.inr h) o th p0 q0 r0 mu zz fA fM k1 k2 k3 (-1) M N (Or.inr (Or.inl rfl)) (by omega) (by omega) (by omega) hM hN sM sN) (cwV 4 hts (lw_V q2111 q2113 qs36 q107 q2114) rfl rfl rfl (by decide +kernel) ⟨Nat.le_of_ble_eq_true rfl, Nat.le_of_ble_eq_true rfl⟩) (gP_V (va_recv hK hP (ci := 2) (q0 := 0) rfl rfl) hG hS (fun q _ h => hF9 q h) ⟨rfl, (hP.sub (ws' := [(o 0, .inr (2, mFs o th p0 q0 r0 mu zz)), (o 5, .inl (dA 1, 2640, .inr (.inl fA))), (o 6, .inl (dA 1, 32, .inr (.inl fM)))]) [0, 1, 2] rfl), (hD.sub (ws' := [(o 0, .inr (2, mFs o th p0 q0 r0 mu zz)), (o 5, .inl (dA 1, 2640, .inr (.inl fA))), (o 6, .inl (dA 1, 32, .inr (.inl fM)))]) [0, 1, 2] (by decide) rfl).self⟩) rfl rfl hl.1 rfl (lv_room (Nat.le_of_ble_eq_true rfl)) dX7_carriesOut_68 ⟨by first | decide | omega, by first | decide | omega⟩) hP hD hS hA [0, 1, 2] [] rfl rfl (by decide) (by decide) (fun r9 u9 H locs hq hX hz hk hP hD hS => ?_)
    obtain ⟨fA_10, fM_11, mu_12⟩ := u9
    obtain ⟨r_13, rfl⟩ : ∃ z, z = r9 := ⟨_, rfl⟩
    have hq_14 := hq
    try dsimp only at hq_14
    have hP : va_P (dC, dI) vwCl [(o 0, .inr (2, mFs o th p0 q0 r0 mu_12 zz)), (o 5, .inl (dA 1, 2640, .inr (.inl fA_10))), (o 6, .inl (dA 1, 32, .inr (.inl fM_11)))] H := hP
    have hD : va_D A [(o 0, .inr (2, mFs o th p0 q0 r0 mu_12 zz)), (o 5, .inl (dA 1, 2640, .inr (.inl fA_10))), (o 6, .inl (dA 1, 32, .inr (.inl fM_11)))] := hD
    rcases hq_14.cases with ⟨P_15, e_15, rfl, hH_15, hS_15⟩ | ⟨e_15, rfl, hE_15⟩
    · have sm_16 : MSm P_15 := addS_sm sM sN e_15
      subst hQe
      exact W.zret (v := nI 1) hx hb hr rfl (fun t ht hW => ⟨⟨_, (fA_10, fM_11, mu_12), rfl, OpPost.mk1 (P := P_15) e_15 hH_15 (fun k9 hk9 i9 hi9 => by (try dsimp only [outH] at hk9); show fA_10 (33 * k9 + i9) = fA (33 * k9 + i9); rw [hS_15 _ (by omega)]), B1_at ht (hP.sub [0, 1, 2] rfl) (hD.sub [0, 1, 2] (by decide) rfl) trivial⟩, hS.F ht⟩) hS.2.2 dX7_carriesOut_71
    · have hh_17 : Hold fA_10 k1 M := by rw [hE_15]; exact hM
      have hh_18 : Hold fA_10 k2 N := by rw [hE_15]; exact hN
      subst hQe
      exact W.zret (v := nI 0) hx hb hr rfl (fun t ht hW => ⟨⟨_, (fA_10, fM_11, mu_12), rfl, OpPost.mk0 e_15 (fun k9 hk9 i9 hi9 => by (try dsimp only [outH] at hk9); show fA_10 (33 * k9 + i9) = fA (33 * k9 + i9); rw [hE_15]), B1_at ht (hP.sub [0, 1, 2] rfl) (hD.sub [0, 1, 2] (by decide) rfl) trivial⟩, hS.F ht⟩) hS.2.2 dX7_carriesOut_71
  · refine lv_tableIn (off := 139) (tgt := 140) hx hb dX7_carriesOut_1 (by decide) (by decide) rfl (by decide) ?_
    refine lv_aload_n hx hb dX7_carriesOut_140 rfl (lv_at hl 0 rfl) ?_
    refine lv_iload_n hx hb dX7_carriesOut_141 rfl (lv_at hl 1 rfl) ?_
    refine lv_iload_n hx hb dX7_carriesOut_142 rfl (lv_at hl 2 rfl) ?_
    refine lv_iload_n hx hb dX7_carriesOut_143 rfl (lv_at hl 3 rfl) ?_
    refine lv_iload hx hb dX7_carriesOut_144 (lv_at hl 4 rfl) ?_
    have hF9 := va_free (wc := [(o 0, .inr (2, mFs o th p0 q0 r0 mu zz)), (o 5, .inl (dA 1, 2640, .inr (.inl fA))), (o 6, .inl (dA 1, 32, .inr (.inl fM)))]) hD hS (fun q h => hA q h) [0, 1, 2] rfl
    refine c_i (wr := []) (va_runV (As := [.int (nI 2), .int (nI k1), .int (nI k2), .int (nI k3)]) (rest := []) ⟨hx, hb, hml, hown, hts⟩ (x7_multiplies Z (va_A [(o 0, .inr (2, mFs o th p0 q0 r0 mu zz)), (o 5, .inl (dA 1, 2640, .inr (.inl fA))), (o 6, .inl (dA 1, 32, .inr (.inl fM)))] s.heap.size) s.heap.size (fun q h => Or.inr h) o th p0 q0 r0 mu zz fA fM 2 k1 k2 k3 M N hn (by omega) (by omega) (by omega) (by omega) (by omega) hM hN sM sN) (cwV 4 hts (lw_V q2168 q2170 qs46 q107 q2171) rfl rfl rfl (by decide +kernel) ⟨Nat.le_of_ble_eq_true rfl, Nat.le_of_ble_eq_true rfl⟩) (gP_V (va_recv hK hP (ci := 2) (q0 := 0) rfl rfl) hG hS (fun q _ h => hF9 q h) ⟨rfl, (hP.sub (ws' := [(o 0, .inr (2, mFs o th p0 q0 r0 mu zz)), (o 5, .inl (dA 1, 2640, .inr (.inl fA))), (o 6, .inl (dA 1, 32, .inr (.inl fM)))]) [0, 1, 2] rfl), (hD.sub (ws' := [(o 0, .inr (2, mFs o th p0 q0 r0 mu zz)), (o 5, .inl (dA 1, 2640, .inr (.inl fA))), (o 6, .inl (dA 1, 32, .inr (.inl fM)))]) [0, 1, 2] (by decide) rfl).self⟩) rfl rfl hl.1 rfl (lv_room (Nat.le_of_ble_eq_true rfl)) dX7_carriesOut_146 ⟨by first | decide | omega, by first | decide | omega⟩) hP hD hS hA [0, 1, 2] [] rfl rfl (by decide) (by decide) (fun r9 u9 H locs hq hX hz hk hP hD hS => ?_)
    obtain ⟨fA_19, fM_20, mu_21⟩ := u9
    obtain ⟨r_22, rfl⟩ : ∃ z, z = r9 := ⟨_, rfl⟩
    have hq_23 := hq
    try dsimp only at hq_23
    have hP : va_P (dC, dI) vwCl [(o 0, .inr (2, mFs o th p0 q0 r0 mu_21 zz)), (o 5, .inl (dA 1, 2640, .inr (.inl fA_19))), (o 6, .inl (dA 1, 32, .inr (.inl fM_20)))] H := hP
    have hD : va_D A [(o 0, .inr (2, mFs o th p0 q0 r0 mu_21 zz)), (o 5, .inl (dA 1, 2640, .inr (.inl fA_19))), (o 6, .inl (dA 1, 32, .inr (.inl fM_20)))] := hD
    rcases hq_23.cases with ⟨P_24, e_24, rfl, hH_24, hS_24⟩ | ⟨e_24, rfl, hE_24⟩
    · have sm_25 : MSm P_24 := mulS_sm sM sN e_24
      subst hQe
      exact W.zret (v := nI 1) hx hb hr rfl (fun t ht hW => ⟨⟨_, (fA_19, fM_20, mu_21), rfl, OpPost.mk1 (P := P_24) e_24 hH_24 (fun k9 hk9 i9 hi9 => by (try dsimp only [outH] at hk9); show fA_19 (33 * k9 + i9) = fA (33 * k9 + i9); rw [hS_24 _ (by omega)]), B1_at ht (hP.sub [0, 1, 2] rfl) (hD.sub [0, 1, 2] (by decide) rfl) trivial⟩, hS.F ht⟩) hS.2.2 dX7_carriesOut_149
    · have hh_26 : Hold fA_19 k1 M := by rw [hE_24]; exact hM
      have hh_27 : Hold fA_19 k2 N := by rw [hE_24]; exact hN
      subst hQe
      exact W.zret (v := nI 0) hx hb hr rfl (fun t ht hW => ⟨⟨_, (fA_19, fM_20, mu_21), rfl, OpPost.mk0 e_24 (fun k9 hk9 i9 hi9 => by (try dsimp only [outH] at hk9); show fA_19 (33 * k9 + i9) = fA (33 * k9 + i9); rw [hE_24]), B1_at ht (hP.sub [0, 1, 2] rfl) (hD.sub [0, 1, 2] (by decide) rfl) trivial⟩, hS.F ht⟩) hS.2.2 dX7_carriesOut_149
  · refine lv_tableIn (off := 139) (tgt := 140) hx hb dX7_carriesOut_1 (by decide) (by decide) rfl (by decide) ?_
    refine lv_aload_n hx hb dX7_carriesOut_140 rfl (lv_at hl 0 rfl) ?_
    refine lv_iload_n hx hb dX7_carriesOut_141 rfl (lv_at hl 1 rfl) ?_
    refine lv_iload_n hx hb dX7_carriesOut_142 rfl (lv_at hl 2 rfl) ?_
    refine lv_iload_n hx hb dX7_carriesOut_143 rfl (lv_at hl 3 rfl) ?_
    refine lv_iload hx hb dX7_carriesOut_144 (lv_at hl 4 rfl) ?_
    have hF9 := va_free (wc := [(o 0, .inr (2, mFs o th p0 q0 r0 mu zz)), (o 5, .inl (dA 1, 2640, .inr (.inl fA))), (o 6, .inl (dA 1, 32, .inr (.inl fM)))]) hD hS (fun q h => hA q h) [0, 1, 2] rfl
    refine c_i (wr := []) (va_runV (As := [.int (nI 3), .int (nI k1), .int (nI k2), .int (nI k3)]) (rest := []) ⟨hx, hb, hml, hown, hts⟩ (x7_multiplies Z (va_A [(o 0, .inr (2, mFs o th p0 q0 r0 mu zz)), (o 5, .inl (dA 1, 2640, .inr (.inl fA))), (o 6, .inl (dA 1, 32, .inr (.inl fM)))] s.heap.size) s.heap.size (fun q h => Or.inr h) o th p0 q0 r0 mu zz fA fM 3 k1 k2 k3 M N hn (by omega) (by omega) (by omega) (by omega) (by omega) hM hN sM sN) (cwV 4 hts (lw_V q2168 q2170 qs46 q107 q2171) rfl rfl rfl (by decide +kernel) ⟨Nat.le_of_ble_eq_true rfl, Nat.le_of_ble_eq_true rfl⟩) (gP_V (va_recv hK hP (ci := 2) (q0 := 0) rfl rfl) hG hS (fun q _ h => hF9 q h) ⟨rfl, (hP.sub (ws' := [(o 0, .inr (2, mFs o th p0 q0 r0 mu zz)), (o 5, .inl (dA 1, 2640, .inr (.inl fA))), (o 6, .inl (dA 1, 32, .inr (.inl fM)))]) [0, 1, 2] rfl), (hD.sub (ws' := [(o 0, .inr (2, mFs o th p0 q0 r0 mu zz)), (o 5, .inl (dA 1, 2640, .inr (.inl fA))), (o 6, .inl (dA 1, 32, .inr (.inl fM)))]) [0, 1, 2] (by decide) rfl).self⟩) rfl rfl hl.1 rfl (lv_room (Nat.le_of_ble_eq_true rfl)) dX7_carriesOut_146 ⟨by first | decide | omega, by first | decide | omega⟩) hP hD hS hA [0, 1, 2] [] rfl rfl (by decide) (by decide) (fun r9 u9 H locs hq hX hz hk hP hD hS => ?_)
    obtain ⟨fA_28, fM_29, mu_30⟩ := u9
    obtain ⟨r_31, rfl⟩ : ∃ z, z = r9 := ⟨_, rfl⟩
    have hq_32 := hq
    try dsimp only at hq_32
    have hP : va_P (dC, dI) vwCl [(o 0, .inr (2, mFs o th p0 q0 r0 mu_30 zz)), (o 5, .inl (dA 1, 2640, .inr (.inl fA_28))), (o 6, .inl (dA 1, 32, .inr (.inl fM_29)))] H := hP
    have hD : va_D A [(o 0, .inr (2, mFs o th p0 q0 r0 mu_30 zz)), (o 5, .inl (dA 1, 2640, .inr (.inl fA_28))), (o 6, .inl (dA 1, 32, .inr (.inl fM_29)))] := hD
    rcases hq_32.cases with ⟨P_33, e_33, rfl, hH_33, hS_33⟩ | ⟨e_33, rfl, hE_33⟩
    · have sm_34 : MSm P_33 := mulS_sm sM sN e_33
      subst hQe
      exact W.zret (v := nI 1) hx hb hr rfl (fun t ht hW => ⟨⟨_, (fA_28, fM_29, mu_30), rfl, OpPost.mk1 (P := P_33) e_33 hH_33 (fun k9 hk9 i9 hi9 => by (try dsimp only [outH] at hk9); show fA_28 (33 * k9 + i9) = fA (33 * k9 + i9); rw [hS_33 _ (by omega)]), B1_at ht (hP.sub [0, 1, 2] rfl) (hD.sub [0, 1, 2] (by decide) rfl) trivial⟩, hS.F ht⟩) hS.2.2 dX7_carriesOut_149
    · have hh_35 : Hold fA_28 k1 M := by rw [hE_33]; exact hM
      have hh_36 : Hold fA_28 k2 N := by rw [hE_33]; exact hN
      subst hQe
      exact W.zret (v := nI 0) hx hb hr rfl (fun t ht hW => ⟨⟨_, (fA_28, fM_29, mu_30), rfl, OpPost.mk0 e_33 (fun k9 hk9 i9 hi9 => by (try dsimp only [outH] at hk9); show fA_28 (33 * k9 + i9) = fA (33 * k9 + i9); rw [hE_33]), B1_at ht (hP.sub [0, 1, 2] rfl) (hD.sub [0, 1, 2] (by decide) rfl) trivial⟩, hS.F ht⟩) hS.2.2 dX7_carriesOut_149
  · refine lv_tableIn (off := 139) (tgt := 140) hx hb dX7_carriesOut_1 (by decide) (by decide) rfl (by decide) ?_
    refine lv_aload_n hx hb dX7_carriesOut_140 rfl (lv_at hl 0 rfl) ?_
    refine lv_iload_n hx hb dX7_carriesOut_141 rfl (lv_at hl 1 rfl) ?_
    refine lv_iload_n hx hb dX7_carriesOut_142 rfl (lv_at hl 2 rfl) ?_
    refine lv_iload_n hx hb dX7_carriesOut_143 rfl (lv_at hl 3 rfl) ?_
    refine lv_iload hx hb dX7_carriesOut_144 (lv_at hl 4 rfl) ?_
    have hF9 := va_free (wc := [(o 0, .inr (2, mFs o th p0 q0 r0 mu zz)), (o 5, .inl (dA 1, 2640, .inr (.inl fA))), (o 6, .inl (dA 1, 32, .inr (.inl fM)))]) hD hS (fun q h => hA q h) [0, 1, 2] rfl
    refine c_i (wr := []) (va_runV (As := [.int (nI 4), .int (nI k1), .int (nI k2), .int (nI k3)]) (rest := []) ⟨hx, hb, hml, hown, hts⟩ (x7_multiplies Z (va_A [(o 0, .inr (2, mFs o th p0 q0 r0 mu zz)), (o 5, .inl (dA 1, 2640, .inr (.inl fA))), (o 6, .inl (dA 1, 32, .inr (.inl fM)))] s.heap.size) s.heap.size (fun q h => Or.inr h) o th p0 q0 r0 mu zz fA fM 4 k1 k2 k3 M N hn (by omega) (by omega) (by omega) (by omega) (by omega) hM hN sM sN) (cwV 4 hts (lw_V q2168 q2170 qs46 q107 q2171) rfl rfl rfl (by decide +kernel) ⟨Nat.le_of_ble_eq_true rfl, Nat.le_of_ble_eq_true rfl⟩) (gP_V (va_recv hK hP (ci := 2) (q0 := 0) rfl rfl) hG hS (fun q _ h => hF9 q h) ⟨rfl, (hP.sub (ws' := [(o 0, .inr (2, mFs o th p0 q0 r0 mu zz)), (o 5, .inl (dA 1, 2640, .inr (.inl fA))), (o 6, .inl (dA 1, 32, .inr (.inl fM)))]) [0, 1, 2] rfl), (hD.sub (ws' := [(o 0, .inr (2, mFs o th p0 q0 r0 mu zz)), (o 5, .inl (dA 1, 2640, .inr (.inl fA))), (o 6, .inl (dA 1, 32, .inr (.inl fM)))]) [0, 1, 2] (by decide) rfl).self⟩) rfl rfl hl.1 rfl (lv_room (Nat.le_of_ble_eq_true rfl)) dX7_carriesOut_146 ⟨by first | decide | omega, by first | decide | omega⟩) hP hD hS hA [0, 1, 2] [] rfl rfl (by decide) (by decide) (fun r9 u9 H locs hq hX hz hk hP hD hS => ?_)
    obtain ⟨fA_37, fM_38, mu_39⟩ := u9
    obtain ⟨r_40, rfl⟩ : ∃ z, z = r9 := ⟨_, rfl⟩
    have hq_41 := hq
    try dsimp only at hq_41
    have hP : va_P (dC, dI) vwCl [(o 0, .inr (2, mFs o th p0 q0 r0 mu_39 zz)), (o 5, .inl (dA 1, 2640, .inr (.inl fA_37))), (o 6, .inl (dA 1, 32, .inr (.inl fM_38)))] H := hP
    have hD : va_D A [(o 0, .inr (2, mFs o th p0 q0 r0 mu_39 zz)), (o 5, .inl (dA 1, 2640, .inr (.inl fA_37))), (o 6, .inl (dA 1, 32, .inr (.inl fM_38)))] := hD
    rcases hq_41.cases with ⟨P_42, e_42, rfl, hH_42, hS_42⟩ | ⟨e_42, rfl, hE_42⟩
    · have sm_43 : MSm P_42 := mulS_sm sM sN e_42
      subst hQe
      exact W.zret (v := nI 1) hx hb hr rfl (fun t ht hW => ⟨⟨_, (fA_37, fM_38, mu_39), rfl, OpPost.mk1 (P := P_42) e_42 hH_42 (fun k9 hk9 i9 hi9 => by (try dsimp only [outH] at hk9); show fA_37 (33 * k9 + i9) = fA (33 * k9 + i9); rw [hS_42 _ (by omega)]), B1_at ht (hP.sub [0, 1, 2] rfl) (hD.sub [0, 1, 2] (by decide) rfl) trivial⟩, hS.F ht⟩) hS.2.2 dX7_carriesOut_149
    · have hh_44 : Hold fA_37 k1 M := by rw [hE_42]; exact hM
      have hh_45 : Hold fA_37 k2 N := by rw [hE_42]; exact hN
      subst hQe
      exact W.zret (v := nI 0) hx hb hr rfl (fun t ht hW => ⟨⟨_, (fA_37, fM_38, mu_39), rfl, OpPost.mk0 e_42 (fun k9 hk9 i9 hi9 => by (try dsimp only [outH] at hk9); show fA_37 (33 * k9 + i9) = fA (33 * k9 + i9); rw [hE_42]), B1_at ht (hP.sub [0, 1, 2] rfl) (hD.sub [0, 1, 2] (by decide) rfl) trivial⟩, hS.F ht⟩) hS.2.2 dX7_carriesOut_149
  · refine lv_tableIn (off := 139) (tgt := 140) hx hb dX7_carriesOut_1 (by decide) (by decide) rfl (by decide) ?_
    refine lv_aload_n hx hb dX7_carriesOut_140 rfl (lv_at hl 0 rfl) ?_
    refine lv_iload_n hx hb dX7_carriesOut_141 rfl (lv_at hl 1 rfl) ?_
    refine lv_iload_n hx hb dX7_carriesOut_142 rfl (lv_at hl 2 rfl) ?_
    refine lv_iload_n hx hb dX7_carriesOut_143 rfl (lv_at hl 3 rfl) ?_
    refine lv_iload hx hb dX7_carriesOut_144 (lv_at hl 4 rfl) ?_
    have hF9 := va_free (wc := [(o 0, .inr (2, mFs o th p0 q0 r0 mu zz)), (o 5, .inl (dA 1, 2640, .inr (.inl fA))), (o 6, .inl (dA 1, 32, .inr (.inl fM)))]) hD hS (fun q h => hA q h) [0, 1, 2] rfl
    refine c_i (wr := []) (va_runV (As := [.int (nI 5), .int (nI k1), .int (nI k2), .int (nI k3)]) (rest := []) ⟨hx, hb, hml, hown, hts⟩ (x7_multiplies Z (va_A [(o 0, .inr (2, mFs o th p0 q0 r0 mu zz)), (o 5, .inl (dA 1, 2640, .inr (.inl fA))), (o 6, .inl (dA 1, 32, .inr (.inl fM)))] s.heap.size) s.heap.size (fun q h => Or.inr h) o th p0 q0 r0 mu zz fA fM 5 k1 k2 k3 M N hn (by omega) (by omega) (by omega) (by omega) (by omega) hM hN sM sN) (cwV 4 hts (lw_V q2168 q2170 qs46 q107 q2171) rfl rfl rfl (by decide +kernel) ⟨Nat.le_of_ble_eq_true rfl, Nat.le_of_ble_eq_true rfl⟩) (gP_V (va_recv hK hP (ci := 2) (q0 := 0) rfl rfl) hG hS (fun q _ h => hF9 q h) ⟨rfl, (hP.sub (ws' := [(o 0, .inr (2, mFs o th p0 q0 r0 mu zz)), (o 5, .inl (dA 1, 2640, .inr (.inl fA))), (o 6, .inl (dA 1, 32, .inr (.inl fM)))]) [0, 1, 2] rfl), (hD.sub (ws' := [(o 0, .inr (2, mFs o th p0 q0 r0 mu zz)), (o 5, .inl (dA 1, 2640, .inr (.inl fA))), (o 6, .inl (dA 1, 32, .inr (.inl fM)))]) [0, 1, 2] (by decide) rfl).self⟩) rfl rfl hl.1 rfl (lv_room (Nat.le_of_ble_eq_true rfl)) dX7_carriesOut_146 ⟨by first | decide | omega, by first | decide | omega⟩) hP hD hS hA [0, 1, 2] [] rfl rfl (by decide) (by decide) (fun r9 u9 H locs hq hX hz hk hP hD hS => ?_)
    obtain ⟨fA_46, fM_47, mu_48⟩ := u9
    obtain ⟨r_49, rfl⟩ : ∃ z, z = r9 := ⟨_, rfl⟩
    have hq_50 := hq
    try dsimp only at hq_50
    have hP : va_P (dC, dI) vwCl [(o 0, .inr (2, mFs o th p0 q0 r0 mu_48 zz)), (o 5, .inl (dA 1, 2640, .inr (.inl fA_46))), (o 6, .inl (dA 1, 32, .inr (.inl fM_47)))] H := hP
    have hD : va_D A [(o 0, .inr (2, mFs o th p0 q0 r0 mu_48 zz)), (o 5, .inl (dA 1, 2640, .inr (.inl fA_46))), (o 6, .inl (dA 1, 32, .inr (.inl fM_47)))] := hD
    rcases hq_50.cases with ⟨P_51, e_51, rfl, hH_51, hS_51⟩ | ⟨e_51, rfl, hE_51⟩
    · have sm_52 : MSm P_51 := mulS_sm sM sN e_51
      subst hQe
      exact W.zret (v := nI 1) hx hb hr rfl (fun t ht hW => ⟨⟨_, (fA_46, fM_47, mu_48), rfl, OpPost.mk1 (P := P_51) e_51 hH_51 (fun k9 hk9 i9 hi9 => by (try dsimp only [outH] at hk9); show fA_46 (33 * k9 + i9) = fA (33 * k9 + i9); rw [hS_51 _ (by omega)]), B1_at ht (hP.sub [0, 1, 2] rfl) (hD.sub [0, 1, 2] (by decide) rfl) trivial⟩, hS.F ht⟩) hS.2.2 dX7_carriesOut_149
    · have hh_53 : Hold fA_46 k1 M := by rw [hE_51]; exact hM
      have hh_54 : Hold fA_46 k2 N := by rw [hE_51]; exact hN
      subst hQe
      exact W.zret (v := nI 0) hx hb hr rfl (fun t ht hW => ⟨⟨_, (fA_46, fM_47, mu_48), rfl, OpPost.mk0 e_51 (fun k9 hk9 i9 hi9 => by (try dsimp only [outH] at hk9); show fA_46 (33 * k9 + i9) = fA (33 * k9 + i9); rw [hE_51]), B1_at ht (hP.sub [0, 1, 2] rfl) (hD.sub [0, 1, 2] (by decide) rfl) trivial⟩, hS.F ht⟩) hS.2.2 dX7_carriesOut_149
  · refine lv_tableIn (off := 139) (tgt := 140) hx hb dX7_carriesOut_1 (by decide) (by decide) rfl (by decide) ?_
    refine lv_aload_n hx hb dX7_carriesOut_140 rfl (lv_at hl 0 rfl) ?_
    refine lv_iload_n hx hb dX7_carriesOut_141 rfl (lv_at hl 1 rfl) ?_
    refine lv_iload_n hx hb dX7_carriesOut_142 rfl (lv_at hl 2 rfl) ?_
    refine lv_iload_n hx hb dX7_carriesOut_143 rfl (lv_at hl 3 rfl) ?_
    refine lv_iload hx hb dX7_carriesOut_144 (lv_at hl 4 rfl) ?_
    have hF9 := va_free (wc := [(o 0, .inr (2, mFs o th p0 q0 r0 mu zz)), (o 5, .inl (dA 1, 2640, .inr (.inl fA))), (o 6, .inl (dA 1, 32, .inr (.inl fM)))]) hD hS (fun q h => hA q h) [0, 1, 2] rfl
    refine c_i (wr := []) (va_runV (As := [.int (nI 6), .int (nI k1), .int (nI k2), .int (nI k3)]) (rest := []) ⟨hx, hb, hml, hown, hts⟩ (x7_multiplies Z (va_A [(o 0, .inr (2, mFs o th p0 q0 r0 mu zz)), (o 5, .inl (dA 1, 2640, .inr (.inl fA))), (o 6, .inl (dA 1, 32, .inr (.inl fM)))] s.heap.size) s.heap.size (fun q h => Or.inr h) o th p0 q0 r0 mu zz fA fM 6 k1 k2 k3 M N hn (by omega) (by omega) (by omega) (by omega) (by omega) hM hN sM sN) (cwV 4 hts (lw_V q2168 q2170 qs46 q107 q2171) rfl rfl rfl (by decide +kernel) ⟨Nat.le_of_ble_eq_true rfl, Nat.le_of_ble_eq_true rfl⟩) (gP_V (va_recv hK hP (ci := 2) (q0 := 0) rfl rfl) hG hS (fun q _ h => hF9 q h) ⟨rfl, (hP.sub (ws' := [(o 0, .inr (2, mFs o th p0 q0 r0 mu zz)), (o 5, .inl (dA 1, 2640, .inr (.inl fA))), (o 6, .inl (dA 1, 32, .inr (.inl fM)))]) [0, 1, 2] rfl), (hD.sub (ws' := [(o 0, .inr (2, mFs o th p0 q0 r0 mu zz)), (o 5, .inl (dA 1, 2640, .inr (.inl fA))), (o 6, .inl (dA 1, 32, .inr (.inl fM)))]) [0, 1, 2] (by decide) rfl).self⟩) rfl rfl hl.1 rfl (lv_room (Nat.le_of_ble_eq_true rfl)) dX7_carriesOut_146 ⟨by first | decide | omega, by first | decide | omega⟩) hP hD hS hA [0, 1, 2] [] rfl rfl (by decide) (by decide) (fun r9 u9 H locs hq hX hz hk hP hD hS => ?_)
    obtain ⟨fA_55, fM_56, mu_57⟩ := u9
    obtain ⟨r_58, rfl⟩ : ∃ z, z = r9 := ⟨_, rfl⟩
    have hq_59 := hq
    try dsimp only at hq_59
    have hP : va_P (dC, dI) vwCl [(o 0, .inr (2, mFs o th p0 q0 r0 mu_57 zz)), (o 5, .inl (dA 1, 2640, .inr (.inl fA_55))), (o 6, .inl (dA 1, 32, .inr (.inl fM_56)))] H := hP
    have hD : va_D A [(o 0, .inr (2, mFs o th p0 q0 r0 mu_57 zz)), (o 5, .inl (dA 1, 2640, .inr (.inl fA_55))), (o 6, .inl (dA 1, 32, .inr (.inl fM_56)))] := hD
    rcases hq_59.cases with ⟨P_60, e_60, rfl, hH_60, hS_60⟩ | ⟨e_60, rfl, hE_60⟩
    · have sm_61 : MSm P_60 := mulS_sm sM sN e_60
      subst hQe
      exact W.zret (v := nI 1) hx hb hr rfl (fun t ht hW => ⟨⟨_, (fA_55, fM_56, mu_57), rfl, OpPost.mk1 (P := P_60) e_60 hH_60 (fun k9 hk9 i9 hi9 => by (try dsimp only [outH] at hk9); show fA_55 (33 * k9 + i9) = fA (33 * k9 + i9); rw [hS_60 _ (by omega)]), B1_at ht (hP.sub [0, 1, 2] rfl) (hD.sub [0, 1, 2] (by decide) rfl) trivial⟩, hS.F ht⟩) hS.2.2 dX7_carriesOut_149
    · have hh_62 : Hold fA_55 k1 M := by rw [hE_60]; exact hM
      have hh_63 : Hold fA_55 k2 N := by rw [hE_60]; exact hN
      subst hQe
      exact W.zret (v := nI 0) hx hb hr rfl (fun t ht hW => ⟨⟨_, (fA_55, fM_56, mu_57), rfl, OpPost.mk0 e_60 (fun k9 hk9 i9 hi9 => by (try dsimp only [outH] at hk9); show fA_55 (33 * k9 + i9) = fA (33 * k9 + i9); rw [hE_60]), B1_at ht (hP.sub [0, 1, 2] rfl) (hD.sub [0, 1, 2] (by decide) rfl) trivial⟩, hS.F ht⟩) hS.2.2 dX7_carriesOut_149
  · refine lv_tableIn (off := 71) (tgt := 72) hx hb dX7_carriesOut_1 (by decide) (by decide) rfl (by decide) ?_
    refine lv_aload_n hx hb dX7_carriesOut_72 rfl (lv_at hl 0 rfl) ?_
    refine lv_iload_n hx hb dX7_carriesOut_73 rfl (lv_at hl 2 rfl) ?_
    refine lv_iload_n hx hb dX7_carriesOut_74 rfl (lv_at hl 3 rfl) ?_
    refine lv_iload hx hb dX7_carriesOut_75 (lv_at hl 4 rfl) ?_
    have hF9 := va_free (wc := [(o 0, .inr (2, mFs o th p0 q0 r0 mu zz)), (o 5, .inl (dA 1, 2640, .inr (.inl fA))), (o 6, .inl (dA 1, 32, .inr (.inl fM)))]) hD hS (fun q h => hA q h) [0, 1, 2] rfl
    refine c_i (wr := []) (va_runV (As := [.int (nI k1), .int (nI k2), .int (nI k3)]) (rest := []) ⟨hx, hb, hml, hown, hts⟩ (x7_meets Z (va_A [(o 0, .inr (2, mFs o th p0 q0 r0 mu zz)), (o 5, .inl (dA 1, 2640, .inr (.inl fA))), (o 6, .inl (dA 1, 32, .inr (.inl fM)))] s.heap.size) s.heap.size (fun q h => Or.inr h) o th p0 q0 r0 mu zz fA fM k1 k2 k3 M N (by omega) (by omega) (by omega) (by omega) (by omega) (by omega) (by omega) hM hN sM sN) (cwV 3 hts (lw_V q2139 q2141 qs41 q107 q2142) rfl rfl rfl (by decide +kernel) ⟨Nat.le_of_ble_eq_true rfl, Nat.le_of_ble_eq_true rfl⟩) (gP_V (va_recv hK hP (ci := 2) (q0 := 0) rfl rfl) hG hS (fun q _ h => hF9 q h) ⟨rfl, (hP.sub (ws' := [(o 0, .inr (2, mFs o th p0 q0 r0 mu zz)), (o 5, .inl (dA 1, 2640, .inr (.inl fA))), (o 6, .inl (dA 1, 32, .inr (.inl fM)))]) [0, 1, 2] rfl), (hD.sub (ws' := [(o 0, .inr (2, mFs o th p0 q0 r0 mu zz)), (o 5, .inl (dA 1, 2640, .inr (.inl fA))), (o 6, .inl (dA 1, 32, .inr (.inl fM)))]) [0, 1, 2] (by decide) rfl).self⟩) rfl rfl hl.1 rfl (lv_room (Nat.le_of_ble_eq_true rfl)) dX7_carriesOut_77 ⟨by first | decide | omega, by first | decide | omega⟩) hP hD hS hA [0, 1, 2] [] rfl rfl (by decide) (by decide) (fun r9 u9 H locs hq hX hz hk hP hD hS => ?_)
    obtain ⟨fA_64, fM_65, mu_66⟩ := u9
    obtain ⟨r_67, rfl⟩ : ∃ z, z = r9 := ⟨_, rfl⟩
    have hq_68 := hq
    try dsimp only at hq_68
    have hP : va_P (dC, dI) vwCl [(o 0, .inr (2, mFs o th p0 q0 r0 mu_66 zz)), (o 5, .inl (dA 1, 2640, .inr (.inl fA_64))), (o 6, .inl (dA 1, 32, .inr (.inl fM_65)))] H := hP
    have hD : va_D A [(o 0, .inr (2, mFs o th p0 q0 r0 mu_66 zz)), (o 5, .inl (dA 1, 2640, .inr (.inl fA_64))), (o 6, .inl (dA 1, 32, .inr (.inl fM_65)))] := hD
    rcases hq_68 with ⟨P_69, e_69, rfl, hH_69, hS_69⟩ | ⟨e_69, rfl, hE_69⟩
    · have sm_70 : MSm P_69 := meetS_sm (by omega) sM sN e_69
      subst hQe
      exact W.zret (v := nI 1) hx hb hr rfl (fun t ht hW => ⟨⟨_, (fA_64, fM_65, mu_66), rfl, OpPost.mk1 (P := P_69) e_69 hH_69 (fun k9 hk9 i9 hi9 => by (try dsimp only [outH] at hk9); show fA_64 (33 * k9 + i9) = fA (33 * k9 + i9); rw [hS_69 k9 (by omega) i9 hi9]), B1_at ht (hP.sub [0, 1, 2] rfl) (hD.sub [0, 1, 2] (by decide) rfl) trivial⟩, hS.F ht⟩) hS.2.2 dX7_carriesOut_80
    · have hh_71 := hE_69.hold (k := k1) (by omega) hM
      have hh_72 := hE_69.hold (k := k2) (by omega) hN
      subst hQe
      exact W.zret (v := nI 0) hx hb hr rfl (fun t ht hW => ⟨⟨_, (fA_64, fM_65, mu_66), rfl, OpPost.mk0 e_69 (fun k9 hk9 i9 hi9 => by (try dsimp only [outH] at hk9); show fA_64 (33 * k9 + i9) = fA (33 * k9 + i9); rw [hE_69 k9 (by omega) i9 hi9]), B1_at ht (hP.sub [0, 1, 2] rfl) (hD.sub [0, 1, 2] (by decide) rfl) trivial⟩, hS.F ht⟩) hS.2.2 dX7_carriesOut_80
  · refine lv_tableIn (off := 80) (tgt := 81) hx hb dX7_carriesOut_1 (by decide) (by decide) rfl (by decide) ?_
    refine lv_aload_n hx hb dX7_carriesOut_81 rfl (lv_at hl 0 rfl) ?_
    refine lv_iconst (v := nI 2) hx hb dX7_carriesOut_82 (by decide) ?_
    refine lv_iload_n hx hb dX7_carriesOut_83 rfl (lv_at hl 2 rfl) ?_
    refine lv_iload_n hx hb dX7_carriesOut_84 rfl (lv_at hl 3 rfl) ?_
    refine lv_bipush (v := nI 25) hx hb dX7_carriesOut_85 (by decide) ?_
    have hF9 := va_free (wc := [(o 0, .inr (2, mFs o th p0 q0 r0 mu zz)), (o 5, .inl (dA 1, 2640, .inr (.inl fA))), (o 6, .inl (dA 1, 32, .inr (.inl fM)))]) hD hS (fun q h => hA q h) [0, 1, 2] rfl
    refine c_i (wr := []) (va_runV (As := [.int (nI 2), .int (nI k1), .int (nI k2), .int (nI 25)]) (rest := []) ⟨hx, hb, hml, hown, hts⟩ (x7_multiplies Z (va_A [(o 0, .inr (2, mFs o th p0 q0 r0 mu zz)), (o 5, .inl (dA 1, 2640, .inr (.inl fA))), (o 6, .inl (dA 1, 32, .inr (.inl fM)))] s.heap.size) s.heap.size (fun q h => Or.inr h) o th p0 q0 r0 mu zz fA fM 2 k1 k2 25 M N hn (by omega) (by omega) (by omega) (by omega) (by omega) hM hN sM sN) (cwV 4 hts (lw_V q2168 q2170 qs46 q107 q2171) rfl rfl rfl (by decide +kernel) ⟨Nat.le_of_ble_eq_true rfl, Nat.le_of_ble_eq_true rfl⟩) (gP_V (va_recv hK hP (ci := 2) (q0 := 0) rfl rfl) hG hS (fun q _ h => hF9 q h) ⟨rfl, (hP.sub (ws' := [(o 0, .inr (2, mFs o th p0 q0 r0 mu zz)), (o 5, .inl (dA 1, 2640, .inr (.inl fA))), (o 6, .inl (dA 1, 32, .inr (.inl fM)))]) [0, 1, 2] rfl), (hD.sub (ws' := [(o 0, .inr (2, mFs o th p0 q0 r0 mu zz)), (o 5, .inl (dA 1, 2640, .inr (.inl fA))), (o 6, .inl (dA 1, 32, .inr (.inl fM)))]) [0, 1, 2] (by decide) rfl).self⟩) rfl rfl hl.1 rfl (lv_room (Nat.le_of_ble_eq_true rfl)) dX7_carriesOut_87 ⟨by first | decide | omega, by first | decide | omega⟩) hP hD hS hA [0, 1, 2] [] rfl rfl (by decide) (by decide) (fun r9 u9 H locs hq hX hz hk hP hD hS => ?_)
    obtain ⟨fA_73, fM_74, mu_75⟩ := u9
    obtain ⟨r_76, rfl⟩ : ∃ z, z = r9 := ⟨_, rfl⟩
    have hq_77 := hq
    try dsimp only at hq_77
    have hP : va_P (dC, dI) vwCl [(o 0, .inr (2, mFs o th p0 q0 r0 mu_75 zz)), (o 5, .inl (dA 1, 2640, .inr (.inl fA_73))), (o 6, .inl (dA 1, 32, .inr (.inl fM_74)))] H := hP
    have hD : va_D A [(o 0, .inr (2, mFs o th p0 q0 r0 mu_75 zz)), (o 5, .inl (dA 1, 2640, .inr (.inl fA_73))), (o 6, .inl (dA 1, 32, .inr (.inl fM_74)))] := hD
    rcases hq_77.cases with ⟨P_78, e_78, rfl, hH_78, hS_78⟩ | ⟨e_78, rfl, hE_78⟩
    · have sm_79 : MSm P_78 := mulS_sm sM sN e_78
      have hh_80 := hS_78.hold (j := k1) (by omega) hM
      have hh_81 := hS_78.hold (j := k2) (by omega) hN
      refine lv_if_eq (tgt := 138) hx hb dX7_carriesOut_90 (by decide) (fun c_90 => ?_) (fun c_90 => ?_)
      · exact absurd c_90 (by decide)
      refine lv_aload_n hx hb dX7_carriesOut_93 rfl (lv_at hl 0 rfl) ?_
      refine lv_iconst (v := nI 2) hx hb dX7_carriesOut_94 (by decide) ?_
      refine lv_iload_n hx hb dX7_carriesOut_95 rfl (lv_at hl 3 rfl) ?_
      refine lv_iload_n hx hb dX7_carriesOut_96 rfl (lv_at hl 2 rfl) ?_
      refine lv_bipush (v := nI 26) hx hb dX7_carriesOut_97 (by decide) ?_
      have hF9 := va_free (wc := [(o 0, .inr (2, mFs o th p0 q0 r0 mu_75 zz)), (o 5, .inl (dA 1, 2640, .inr (.inl fA_73))), (o 6, .inl (dA 1, 32, .inr (.inl fM_74)))]) hD hS (fun q h => hA q h) [0, 1, 2] rfl
      refine c_i (wr := []) (va_runV (As := [.int (nI 2), .int (nI k2), .int (nI k1), .int (nI 26)]) (rest := []) ⟨hx, hb, hml, hown, hts⟩ (x7_multiplies Z (va_A [(o 0, .inr (2, mFs o th p0 q0 r0 mu_75 zz)), (o 5, .inl (dA 1, 2640, .inr (.inl fA_73))), (o 6, .inl (dA 1, 32, .inr (.inl fM_74)))] H.size) H.size (fun q h => Or.inr h) o th p0 q0 r0 mu_75 zz fA_73 fM_74 2 k2 k1 26 N M hn (by omega) (by omega) (by omega) (by omega) (by omega) hh_81 hh_80 sN sM) (cwV 4 hts (lw_V q2168 q2170 qs46 q107 q2171) rfl rfl rfl (by decide +kernel) ⟨Nat.le_of_ble_eq_true rfl, Nat.le_of_ble_eq_true rfl⟩) (gP_V (va_recv hK hP (ci := 2) (q0 := 0) rfl rfl) hG hS (fun q _ h => hF9 q h) ⟨rfl, (hP.sub (ws' := [(o 0, .inr (2, mFs o th p0 q0 r0 mu_75 zz)), (o 5, .inl (dA 1, 2640, .inr (.inl fA_73))), (o 6, .inl (dA 1, 32, .inr (.inl fM_74)))]) [0, 1, 2] rfl), (hD.sub (ws' := [(o 0, .inr (2, mFs o th p0 q0 r0 mu_75 zz)), (o 5, .inl (dA 1, 2640, .inr (.inl fA_73))), (o 6, .inl (dA 1, 32, .inr (.inl fM_74)))]) [0, 1, 2] (by decide) rfl).self⟩) rfl rfl hl.1 rfl (lv_room (Nat.le_of_ble_eq_true rfl)) dX7_carriesOut_99 ⟨by first | decide | omega, by first | decide | omega⟩) hP hD hS hA [0, 1, 2] [] rfl rfl (by decide) (by decide) (fun r9 u9 H locs hq hX hz hk hP hD hS => ?_)
      obtain ⟨fA_82, fM_83, mu_84⟩ := u9
      obtain ⟨r_85, rfl⟩ : ∃ z, z = r9 := ⟨_, rfl⟩
      have hq_86 := hq
      try dsimp only at hq_86
      have hP : va_P (dC, dI) vwCl [(o 0, .inr (2, mFs o th p0 q0 r0 mu_84 zz)), (o 5, .inl (dA 1, 2640, .inr (.inl fA_82))), (o 6, .inl (dA 1, 32, .inr (.inl fM_83)))] H := hP
      have hD : va_D A [(o 0, .inr (2, mFs o th p0 q0 r0 mu_84 zz)), (o 5, .inl (dA 1, 2640, .inr (.inl fA_82))), (o 6, .inl (dA 1, 32, .inr (.inl fM_83)))] := hD
      rcases hq_86.cases with ⟨P_87, e_87, rfl, hH_87, hS_87⟩ | ⟨e_87, rfl, hE_87⟩
      · have sm_88 : MSm P_87 := mulS_sm sN sM e_87
        have hh_89 := hS_87.hold (j := k1) (by omega) hh_80
        have hh_90 := hS_87.hold (j := k2) (by omega) hh_81
        have hh_91 := hS_87.hold (j := 25) (by omega) hH_78
        refine lv_if_eq (tgt := 138) hx hb dX7_carriesOut_102 (by decide) (fun c_102 => ?_) (fun c_102 => ?_)
        · exact absurd c_102 (by decide)
        refine lv_aload_n hx hb dX7_carriesOut_105 rfl (lv_at hl 0 rfl) ?_
        refine lv_bipush (v := nI 25) hx hb dX7_carriesOut_106 (by decide) ?_
        refine lv_bipush (v := nI 26) hx hb dX7_carriesOut_108 (by decide) ?_
        refine lv_iconst (v := (-1)) hx hb dX7_carriesOut_110 (by decide) ?_
        refine lv_bipush (v := nI 27) hx hb dX7_carriesOut_111 (by decide) ?_
        have hF9 := va_free (wc := [(o 0, .inr (2, mFs o th p0 q0 r0 mu_84 zz)), (o 5, .inl (dA 1, 2640, .inr (.inl fA_82))), (o 6, .inl (dA 1, 32, .inr (.inl fM_83)))]) hD hS (fun q h => hA q h) [0, 1, 2] rfl
        refine c_i (wr := []) (va_runV (As := [.int (nI 25), .int (nI 26), .int (-1), .int (nI 27)]) (rest := []) ⟨hx, hb, hml, hown, hts⟩ (x7_adds Z (va_A [(o 0, .inr (2, mFs o th p0 q0 r0 mu_84 zz)), (o 5, .inl (dA 1, 2640, .inr (.inl fA_82))), (o 6, .inl (dA 1, 32, .inr (.inl fM_83)))] H.size) H.size (fun q h => Or.inr h) o th p0 q0 r0 mu_84 zz fA_82 fM_83 25 26 27 (-1) P_78 P_87 (Or.inr (Or.inl rfl)) (by omega) (by omega) (by omega) hh_91 hH_87 sm_79 sm_88) (cwV 4 hts (lw_V q2111 q2113 qs36 q107 q2114) rfl rfl rfl (by decide +kernel) ⟨Nat.le_of_ble_eq_true rfl, Nat.le_of_ble_eq_true rfl⟩) (gP_V (va_recv hK hP (ci := 2) (q0 := 0) rfl rfl) hG hS (fun q _ h => hF9 q h) ⟨rfl, (hP.sub (ws' := [(o 0, .inr (2, mFs o th p0 q0 r0 mu_84 zz)), (o 5, .inl (dA 1, 2640, .inr (.inl fA_82))), (o 6, .inl (dA 1, 32, .inr (.inl fM_83)))]) [0, 1, 2] rfl), (hD.sub (ws' := [(o 0, .inr (2, mFs o th p0 q0 r0 mu_84 zz)), (o 5, .inl (dA 1, 2640, .inr (.inl fA_82))), (o 6, .inl (dA 1, 32, .inr (.inl fM_83)))]) [0, 1, 2] (by decide) rfl).self⟩) rfl rfl hl.1 rfl (lv_room (Nat.le_of_ble_eq_true rfl)) dX7_carriesOut_113 ⟨by first | decide | omega, by first | decide | omega⟩) hP hD hS hA [0, 1, 2] [] rfl rfl (by decide) (by decide) (fun r9 u9 H locs hq hX hz hk hP hD hS => ?_)
        obtain ⟨fA_92, fM_93, mu_94⟩ := u9
        obtain ⟨r_95, rfl⟩ : ∃ z, z = r9 := ⟨_, rfl⟩
        have hq_96 := hq
        try dsimp only at hq_96
        have hP : va_P (dC, dI) vwCl [(o 0, .inr (2, mFs o th p0 q0 r0 mu_94 zz)), (o 5, .inl (dA 1, 2640, .inr (.inl fA_92))), (o 6, .inl (dA 1, 32, .inr (.inl fM_93)))] H := hP
        have hD : va_D A [(o 0, .inr (2, mFs o th p0 q0 r0 mu_94 zz)), (o 5, .inl (dA 1, 2640, .inr (.inl fA_92))), (o 6, .inl (dA 1, 32, .inr (.inl fM_93)))] := hD
        rcases hq_96.cases with ⟨P_97, e_97, rfl, hH_97, hS_97⟩ | ⟨e_97, rfl, hE_97⟩
        · have sm_98 : MSm P_97 := addS_sm sm_79 sm_88 e_97
          have hh_99 := hS_97.hold (j := k1) (by omega) hh_89
          have hh_100 := hS_97.hold (j := k2) (by omega) hh_90
          have hh_101 := hS_97.hold (j := 25) (by omega) hh_91
          have hh_102 := hS_97.hold (j := 26) (by omega) hH_87
          refine lv_if_eq (tgt := 138) hx hb dX7_carriesOut_116 (by decide) (fun c_116 => ?_) (fun c_116 => ?_)
          · exact absurd c_116 (by decide)
          refine lv_aload_n hx hb dX7_carriesOut_119 rfl (lv_at hl 0 rfl) ?_
          refine lv_bipush (v := nI 27) hx hb dX7_carriesOut_120 (by decide) ?_
          refine lv_lconst (v := 1) hx hb dX7_carriesOut_122 rfl ?_
          refine lv_ldc2 hx hb hown (hts _ q2175) dX7_carriesOut_123 ?_
          refine lv_iload hx hb dX7_carriesOut_126 (lv_at hl 4 rfl) ?_
          have hF9 := va_free (wc := [(o 0, .inr (2, mFs o th p0 q0 r0 mu_94 zz)), (o 5, .inl (dA 1, 2640, .inr (.inl fA_92))), (o 6, .inl (dA 1, 32, .inr (.inl fM_93)))]) hD hS (fun q h => hA q h) [0, 1, 2] rfl
          refine c_i (wr := []) (va_runV (As := [.int (nI 27), .long 1, .long (2 : Int64), .int (nI k3)]) (rest := []) ⟨hx, hb, hml, hown, hts⟩ (x7_scales Z (va_A [(o 0, .inr (2, mFs o th p0 q0 r0 mu_94 zz)), (o 5, .inl (dA 1, 2640, .inr (.inl fA_92))), (o 6, .inl (dA 1, 32, .inr (.inl fM_93)))] H.size) H.size (fun q h => Or.inr h) o th p0 q0 r0 mu_94 zz fA_92 fM_93 27 k3 1 (2 : Int64) P_97 (by unfold sm8; decide) (by unfold sm8; decide) (by decide) (by omega) (by omega) hH_97 sm_98) (cwV 4 hts (lw_V q2176 q2178 qs47 q107 q2179) rfl rfl rfl (by decide +kernel) ⟨Nat.le_of_ble_eq_true rfl, Nat.le_of_ble_eq_true rfl⟩) (gP_V (va_recv hK hP (ci := 2) (q0 := 0) rfl rfl) hG hS (fun q _ h => hF9 q h) ⟨rfl, (hP.sub (ws' := [(o 0, .inr (2, mFs o th p0 q0 r0 mu_94 zz)), (o 5, .inl (dA 1, 2640, .inr (.inl fA_92))), (o 6, .inl (dA 1, 32, .inr (.inl fM_93)))]) [0, 1, 2] rfl), (hD.sub (ws' := [(o 0, .inr (2, mFs o th p0 q0 r0 mu_94 zz)), (o 5, .inl (dA 1, 2640, .inr (.inl fA_92))), (o 6, .inl (dA 1, 32, .inr (.inl fM_93)))]) [0, 1, 2] (by decide) rfl).self⟩) rfl rfl hl.1 rfl (lv_room (Nat.le_of_ble_eq_true rfl)) dX7_carriesOut_128 ⟨by first | decide | omega, by first | decide | omega⟩) hP hD hS hA [0, 1, 2] [] rfl rfl (by decide) (by decide) (fun r9 u9 H locs hq hX hz hk hP hD hS => ?_)
          obtain ⟨fA_103, fM_104, mu_105⟩ := u9
          obtain ⟨r_106, rfl⟩ : ∃ z, z = r9 := ⟨_, rfl⟩
          have hq_107 := hq
          try dsimp only at hq_107
          have hP : va_P (dC, dI) vwCl [(o 0, .inr (2, mFs o th p0 q0 r0 mu_105 zz)), (o 5, .inl (dA 1, 2640, .inr (.inl fA_103))), (o 6, .inl (dA 1, 32, .inr (.inl fM_104)))] H := hP
          have hD : va_D A [(o 0, .inr (2, mFs o th p0 q0 r0 mu_105 zz)), (o 5, .inl (dA 1, 2640, .inr (.inl fA_103))), (o 6, .inl (dA 1, 32, .inr (.inl fM_104)))] := hD
          rcases hq_107.cases with ⟨P_108, e_108, rfl, hH_108, hS_108⟩ | ⟨e_108, rfl, hE_108⟩
          · have sm_109 : MSm P_108 := scaS_sm (by unfold sm8; decide) (by decide) sm_98 e_108
            have hh_110 := hS_108.hold (j := 25) (by omega) hh_101
            have hh_111 := hS_108.hold (j := 26) (by omega) hh_102
            have hh_112 := hS_108.hold (j := 27) (by omega) hH_97
            refine lv_if_eq (tgt := 138) hx hb dX7_carriesOut_131 (by decide) (fun c_131 => ?_) (fun c_131 => ?_)
            · exact absurd c_131 (by decide)
            refine lv_iconst (v := nI 1) hx hb dX7_carriesOut_134 (by decide) ?_
            refine lv_goto (tgt := 139) hx hb dX7_carriesOut_135 (by decide) ?_
            subst hQe
            exact W.zret (v := nI 1) hx hb hr rfl (fun t ht hW => ⟨⟨_, (fA_103, fM_104, mu_105), rfl, OpPost.mk1 (P := P_108) (by show comS p0 q0 r0 M N = _; simp only [comS, e_78, e_87, e_97, e_108]) hH_108 (fun k9 hk9 i9 hi9 => by (try dsimp only [outH] at hk9); show fA_103 (33 * k9 + i9) = fA (33 * k9 + i9); rw [hS_108 _ (by omega), hS_97 _ (by omega), hS_87 _ (by omega), hS_78 _ (by omega)]), B1_at ht (hP.sub [0, 1, 2] rfl) (hD.sub [0, 1, 2] (by decide) rfl) trivial⟩, hS.F ht⟩) hS.2.2 dX7_carriesOut_139
          · have hh_113 : Hold fA_103 k1 M := by rw [hE_108]; exact hh_99
            have hh_114 : Hold fA_103 k2 N := by rw [hE_108]; exact hh_100
            have hh_115 : Hold fA_103 25 P_78 := by rw [hE_108]; exact hh_101
            have hh_116 : Hold fA_103 26 P_87 := by rw [hE_108]; exact hh_102
            have hh_117 : Hold fA_103 27 P_97 := by rw [hE_108]; exact hH_97
            refine lv_if_eq (tgt := 138) hx hb dX7_carriesOut_131 (by decide) (fun c_131 => ?_) (fun c_131 => ?_)
            rotate_left
            · exact absurd (by decide) c_131
            refine lv_iconst (v := nI 0) hx hb dX7_carriesOut_138 (by decide) ?_
            subst hQe
            exact W.zret (v := nI 0) hx hb hr rfl (fun t ht hW => ⟨⟨_, (fA_103, fM_104, mu_105), rfl, OpPost.mk0 (by show comS p0 q0 r0 M N = _; simp only [comS, e_78, e_87, e_97, e_108]) (fun k9 hk9 i9 hi9 => by (try dsimp only [outH] at hk9); show fA_103 (33 * k9 + i9) = fA (33 * k9 + i9); rw [hE_108, hS_97 _ (by omega), hS_87 _ (by omega), hS_78 _ (by omega)]), B1_at ht (hP.sub [0, 1, 2] rfl) (hD.sub [0, 1, 2] (by decide) rfl) trivial⟩, hS.F ht⟩) hS.2.2 dX7_carriesOut_139
        · have hh_118 : Hold fA_92 k1 M := by rw [hE_97]; exact hh_89
          have hh_119 : Hold fA_92 k2 N := by rw [hE_97]; exact hh_90
          have hh_120 : Hold fA_92 25 P_78 := by rw [hE_97]; exact hh_91
          have hh_121 : Hold fA_92 26 P_87 := by rw [hE_97]; exact hH_87
          refine lv_if_eq (tgt := 138) hx hb dX7_carriesOut_116 (by decide) (fun c_116 => ?_) (fun c_116 => ?_)
          rotate_left
          · exact absurd (by decide) c_116
          refine lv_iconst (v := nI 0) hx hb dX7_carriesOut_138 (by decide) ?_
          subst hQe
          exact W.zret (v := nI 0) hx hb hr rfl (fun t ht hW => ⟨⟨_, (fA_92, fM_93, mu_94), rfl, OpPost.mk0 (by show comS p0 q0 r0 M N = _; simp only [comS, e_78, e_87, e_97]) (fun k9 hk9 i9 hi9 => by (try dsimp only [outH] at hk9); show fA_92 (33 * k9 + i9) = fA (33 * k9 + i9); rw [hE_97, hS_87 _ (by omega), hS_78 _ (by omega)]), B1_at ht (hP.sub [0, 1, 2] rfl) (hD.sub [0, 1, 2] (by decide) rfl) trivial⟩, hS.F ht⟩) hS.2.2 dX7_carriesOut_139
      · have hh_122 : Hold fA_82 k1 M := by rw [hE_87]; exact hh_80
        have hh_123 : Hold fA_82 k2 N := by rw [hE_87]; exact hh_81
        have hh_124 : Hold fA_82 25 P_78 := by rw [hE_87]; exact hH_78
        refine lv_if_eq (tgt := 138) hx hb dX7_carriesOut_102 (by decide) (fun c_102 => ?_) (fun c_102 => ?_)
        rotate_left
        · exact absurd (by decide) c_102
        refine lv_iconst (v := nI 0) hx hb dX7_carriesOut_138 (by decide) ?_
        subst hQe
        exact W.zret (v := nI 0) hx hb hr rfl (fun t ht hW => ⟨⟨_, (fA_82, fM_83, mu_84), rfl, OpPost.mk0 (by show comS p0 q0 r0 M N = _; simp only [comS, e_78, e_87]) (fun k9 hk9 i9 hi9 => by (try dsimp only [outH] at hk9); show fA_82 (33 * k9 + i9) = fA (33 * k9 + i9); rw [hE_87, hS_78 _ (by omega)]), B1_at ht (hP.sub [0, 1, 2] rfl) (hD.sub [0, 1, 2] (by decide) rfl) trivial⟩, hS.F ht⟩) hS.2.2 dX7_carriesOut_139
    · have hh_125 : Hold fA_73 k1 M := by rw [hE_78]; exact hM
      have hh_126 : Hold fA_73 k2 N := by rw [hE_78]; exact hN
      refine lv_if_eq (tgt := 138) hx hb dX7_carriesOut_90 (by decide) (fun c_90 => ?_) (fun c_90 => ?_)
      rotate_left
      · exact absurd (by decide) c_90
      refine lv_iconst (v := nI 0) hx hb dX7_carriesOut_138 (by decide) ?_
      subst hQe
      exact W.zret (v := nI 0) hx hb hr rfl (fun t ht hW => ⟨⟨_, (fA_73, fM_74, mu_75), rfl, OpPost.mk0 (by show comS p0 q0 r0 M N = _; simp only [comS, e_78]) (fun k9 hk9 i9 hi9 => by (try dsimp only [outH] at hk9); show fA_73 (33 * k9 + i9) = fA (33 * k9 + i9); rw [hE_78]), B1_at ht (hP.sub [0, 1, 2] rfl) (hD.sub [0, 1, 2] (by decide) rfl) trivial⟩, hS.F ht⟩) hS.2.2 dX7_carriesOut_139
set_option maxHeartbeats 4000000 in
theorem x7_combine {l : Launch} {dC : Nat → ClassId} {dI : Nat → Nat → Nat} {dA : Nat → ClassId} {s0 : State} {b0 : Addr} (Z : Z0 l dC dI dA s0 b0) (A : Nat → Prop) (sz : Nat) (hA : ∀ q : Nat, sz ≤ q → A q) (o : Nat → Nat) (th : Int32) (p0 q0 r0 : Nat) (mu : Int64) (zz : Nat → Int32) (fA fM : Nat → Int64) (Ms : Nat → MV) (xop : Int32) (t : Int32) (a : Int32) (b : Int32) (hn : p0 + q0 + r0 ≤ 5) (hR : ∀ k, k < 8 → Hold fA k (Ms k)) (sR : ∀ k, k < 8 → MSm (Ms k)) : Met l yX7_combine (ws_ yX7_combine cX7_combine 5 (some .int)) ({ frames := 7, cells := 0, slots := 0, locals := 420 } : Room) (gP [.ref (o 0), .int xop, .int t, .int a, .int b] s0 A (fun H => H.size = sz ∧ va_P (dC, dI) vwCl [(o 0, .inr (2, mFs o th p0 q0 r0 mu zz)), (o 5, .inl (dA 1, 2640, .inr (.inl fA))), (o 6, .inl (dA 1, 32, .inr (.inl fM)))] H ∧ va_D A [(o 0, .inr (2, mFs o th p0 q0 r0 mu zz)), (o 5, .inl (dA 1, 2640, .inr (.inl fA))), (o 6, .inl (dA 1, 32, .inr (.inl fM)))])) (va_Qi (S := (Nat → Int64) × (Nat → Int64) × Int64 × Int32) (fun r u => ModPost fA (rg t) (cmbX p0 q0 r0 Ms xop t a b) u.2.2.2 r u.1) (B1 (dC, dI) A (fun u => mC dA o u.2.2.2 p0 q0 r0 u.2.2.1 zz u.1 u.2.1) (fun _ _ => True)) A) 0 0 A := by
  refine Met.ofW (cc := cX7_combine) (maxL := 5) (ret := (some .int)) (by decide) rfl ?_
  intro p e s m args below meth c s₁ B hml hv
  obtain ⟨hav, hG, hsz, hP, hD⟩ := hv
  have hx := B.exec
  have hb := B.bytes
  have hr := B.returns
  have hts := atoms_spec (ws := (ws_ yX7_combine cX7_combine 5 (some .int))) B.pre
  have hts : ∀ w ∈ lw_all, w.before _ s = true := fun w h => hts w (List.mem_cons_of_mem _ h)
  have hown : s.vm.findClass RX7 = some m.cls := findClass_of_methodNamed B.named
  have hlocks := B.notSynchronized
  have hK := hG.K Z
  subst hsz
  have hS : va_S A s.heap s.heap [] := va_S.rf
  have hl := lv_entry ([.ref (o 0), .int xop, .int t, .int a, .int b]) (n := 5) (Nat.le_of_ble_eq_true rfl)
  rw [show entryFrame m args 5 = entryFrame m ([.ref (o 0), .int xop, .int t, .int a, .int b] : List Value).toArray 5 from by rw [hav], lg_entry_eq]
  generalize (lg_sl ([.ref (o 0), .int xop, .int t, .int a, .int b]) ++ List.replicate (5 - (lg_sl ([.ref (o 0), .int xop, .int t, .int a, .int b])).length) Slot.unset).toArray = ls at hl ⊢
  have hl : lv_has ls 5 [(0, .ref (o 0)), (1, .int xop), (2, .int t), (3, .int a), (4, .int b)] := hl
  generalize hQe : MQ below _ _ s _ _ _ = Q
  change W p l e ({ frames := 7, cells := 0, slots := 0, locals := 420 } : Room) s m args below meth c s.heap [] 0 0 Q (F0 m 0 ls [])
  refine lv_iload_n hx hb dX7_combine_0 rfl (lv_at hl 1 rfl) ?_
  refine lv_iconst (v := nI 0) hx hb dX7_combine_1 (by decide) ?_
  refine lv_bipush (v := nI 8) hx hb dX7_combine_2 (by decide) ?_
  refine s_i (va_runS (As := [.int xop, .int (nI 0), .int (nI 8)]) (rest := []) ⟨hx, hb, hml, hown, hts⟩ (x7_in Z xop (nI 0) (nI 8)) (va_cwS 3 hts (lw_S q2097 q2098 q107 q2099) rfl rfl rfl (by decide +kernel) ⟨Nat.le_of_ble_eq_true rfl, Nat.le_of_ble_eq_true rfl⟩) (gP_S hG hS (fun q _ h => h.elim) trivial) rfl rfl hl.1 rfl (lv_room (Nat.le_of_ble_eq_true rfl)) dX7_combine_4 ⟨by first | decide | omega, by first | decide | omega⟩) ?_
  refine lv_if_ne (tgt := 16) hx hb dX7_combine_7 (by decide) (fun c_7 => ?_) (fun c_7 => ?_)
  · have h_xop := bI_1 c_7
    obtain ⟨jxop, hj_xop, rfl⟩ := inB_nat (by decide) h_xop
    refine lv_iload_n hx hb dX7_combine_16 rfl (lv_at hl 2 rfl) ?_
    refine s_i (va_runS (As := [.int t]) (rest := []) ⟨hx, hb, hml, hown, hts⟩ (x7_isRegister Z t) (va_cwS 1 hts (lw_S q2104 q2105 q107 q2106) rfl rfl rfl (by decide +kernel) ⟨Nat.le_of_ble_eq_true rfl, Nat.le_of_ble_eq_true rfl⟩) (gP_S hG hS (fun q _ h => h.elim) trivial) rfl rfl hl.1 rfl (lv_room (Nat.le_of_ble_eq_true rfl)) dX7_combine_17 ⟨by first | decide | omega, by first | decide | omega⟩) ?_
    refine lv_if_eq (tgt := 38) hx hb dX7_combine_20 (by decide) (fun c_20 => ?_) (fun c_20 => ?_)
    · have h_t := bI_0 c_20
      refine lv_aload_n hx hb dX7_combine_38 rfl (lv_at hl 0 rfl) ?_
      refine lv_iconst (v := nI 2) hx hb dX7_combine_39 (by decide) ?_
      have hF9 := va_free (wc := [(o 0, .inr (2, mFs o th p0 q0 r0 mu zz))]) hD hS (fun q h => hA q h) [0] rfl
      refine c_i (wr := [(o 5, .inl (dA 1, 2640, .inr (.inl fA))), (o 6, .inl (dA 1, 32, .inr (.inl fM)))]) (va_runV (As := [.int (nI 2)]) (rest := []) ⟨hx, hb, hml, hown, hts⟩ (x7_refuses Z (va_A [(o 0, .inr (2, mFs o th p0 q0 r0 mu zz))] s.heap.size) s.heap.size (fun q h => Or.inr h) o th p0 q0 r0 mu zz (nI 2)) (cwV 1 hts (lw_V q2100 q2102 qs34 q107 q2103) rfl rfl rfl (by decide +kernel) ⟨Nat.le_of_ble_eq_true rfl, Nat.le_of_ble_eq_true rfl⟩) (gP_V (va_recv hK hP (ci := 2) (q0 := 0) rfl rfl) hG hS (fun q _ h => hF9 q h) ⟨rfl, (hP.sub (ws' := [(o 0, .inr (2, mFs o th p0 q0 r0 mu zz))]) [0] rfl), (hD.sub (ws' := [(o 0, .inr (2, mFs o th p0 q0 r0 mu zz))]) [0] (by decide) rfl).self⟩) rfl rfl hl.1 rfl (lv_room (Nat.le_of_ble_eq_true rfl)) dX7_combine_40 ⟨by first | decide | omega, by first | decide | omega⟩) hP hD hS hA [0] [1, 2] rfl rfl (by decide) (by decide) (fun r9 u9 H locs hq hX hz hk hP hD hS => ?_)
      obtain ⟨r_1, rfl⟩ : ∃ z, z = r9 := ⟨_, rfl⟩
      obtain rfl := hq
      have hP : va_P (dC, dI) vwCl [(o 5, .inl (dA 1, 2640, .inr (.inl fA))), (o 6, .inl (dA 1, 32, .inr (.inl fM))), (o 0, .inr (2, mFs o (nI 2) p0 q0 r0 mu zz))] H := hP
      have hD : va_D A [(o 5, .inl (dA 1, 2640, .inr (.inl fA))), (o 6, .inl (dA 1, 32, .inr (.inl fM))), (o 0, .inr (2, mFs o (nI 2) p0 q0 r0 mu zz))] := hD
      subst hQe
      exact W.iret (v := nI 0) hx hb hr (fun t ht hW => ⟨⟨_, (fA, fM, mu, nI 2), rfl, ModPost.mk0 (c := nI 2) (by simp [cmbX, rgB, optC, h_xop, h_t, nI_clamp (show jxop < 2 ^ 31 by omega)]) (fun k9 hk9 i9 hi9 => rfl), B1_at ht (hP.sub [2, 0, 1] rfl) (hD.sub [2, 0, 1] (by decide) rfl) trivial⟩, hS.F ht⟩) hS.2.2 dX7_combine_43
    · have h_t := bI_1 c_20
      obtain ⟨jt, hj_t, rfl⟩ := inB_nat (by decide) h_t
      refine lv_iload_n hx hb dX7_combine_23 rfl (lv_at hl 3 rfl) ?_
      refine s_i (va_runS (As := [.int a]) (rest := []) ⟨hx, hb, hml, hown, hts⟩ (x7_isRegister Z a) (va_cwS 1 hts (lw_S q2104 q2105 q107 q2106) rfl rfl rfl (by decide +kernel) ⟨Nat.le_of_ble_eq_true rfl, Nat.le_of_ble_eq_true rfl⟩) (gP_S hG hS (fun q _ h => h.elim) trivial) rfl rfl hl.1 rfl (lv_room (Nat.le_of_ble_eq_true rfl)) dX7_combine_24 ⟨by first | decide | omega, by first | decide | omega⟩) ?_
      refine lv_if_eq (tgt := 38) hx hb dX7_combine_27 (by decide) (fun c_27 => ?_) (fun c_27 => ?_)
      · have h_a := bI_0 c_27
        refine lv_aload_n hx hb dX7_combine_38 rfl (lv_at hl 0 rfl) ?_
        refine lv_iconst (v := nI 2) hx hb dX7_combine_39 (by decide) ?_
        have hF9 := va_free (wc := [(o 0, .inr (2, mFs o th p0 q0 r0 mu zz))]) hD hS (fun q h => hA q h) [0] rfl
        refine c_i (wr := [(o 5, .inl (dA 1, 2640, .inr (.inl fA))), (o 6, .inl (dA 1, 32, .inr (.inl fM)))]) (va_runV (As := [.int (nI 2)]) (rest := []) ⟨hx, hb, hml, hown, hts⟩ (x7_refuses Z (va_A [(o 0, .inr (2, mFs o th p0 q0 r0 mu zz))] s.heap.size) s.heap.size (fun q h => Or.inr h) o th p0 q0 r0 mu zz (nI 2)) (cwV 1 hts (lw_V q2100 q2102 qs34 q107 q2103) rfl rfl rfl (by decide +kernel) ⟨Nat.le_of_ble_eq_true rfl, Nat.le_of_ble_eq_true rfl⟩) (gP_V (va_recv hK hP (ci := 2) (q0 := 0) rfl rfl) hG hS (fun q _ h => hF9 q h) ⟨rfl, (hP.sub (ws' := [(o 0, .inr (2, mFs o th p0 q0 r0 mu zz))]) [0] rfl), (hD.sub (ws' := [(o 0, .inr (2, mFs o th p0 q0 r0 mu zz))]) [0] (by decide) rfl).self⟩) rfl rfl hl.1 rfl (lv_room (Nat.le_of_ble_eq_true rfl)) dX7_combine_40 ⟨by first | decide | omega, by first | decide | omega⟩) hP hD hS hA [0] [1, 2] rfl rfl (by decide) (by decide) (fun r9 u9 H locs hq hX hz hk hP hD hS => ?_)
        obtain ⟨r_2, rfl⟩ : ∃ z, z = r9 := ⟨_, rfl⟩
        obtain rfl := hq
        have hP : va_P (dC, dI) vwCl [(o 5, .inl (dA 1, 2640, .inr (.inl fA))), (o 6, .inl (dA 1, 32, .inr (.inl fM))), (o 0, .inr (2, mFs o (nI 2) p0 q0 r0 mu zz))] H := hP
        have hD : va_D A [(o 5, .inl (dA 1, 2640, .inr (.inl fA))), (o 6, .inl (dA 1, 32, .inr (.inl fM))), (o 0, .inr (2, mFs o (nI 2) p0 q0 r0 mu zz))] := hD
        subst hQe
        exact W.iret (v := nI 0) hx hb hr (fun t ht hW => ⟨⟨_, (fA, fM, mu, nI 2), rfl, ModPost.mk0 (c := nI 2) (by simp [cmbX, rgB, optC, h_xop, h_t, h_a, rg_n (show jt < 8 by omega), nI_clamp (show jxop < 2 ^ 31 by omega), nI_clamp (show jt < 2 ^ 31 by omega)]) (fun k9 hk9 i9 hi9 => rfl), B1_at ht (hP.sub [2, 0, 1] rfl) (hD.sub [2, 0, 1] (by decide) rfl) trivial⟩, hS.F ht⟩) hS.2.2 dX7_combine_43
      · have h_a := bI_1 c_27
        obtain ⟨ja, hj_a, rfl⟩ := inB_nat (by decide) h_a
        refine lv_iload hx hb dX7_combine_30 (lv_at hl 4 rfl) ?_
        refine s_i (va_runS (As := [.int b]) (rest := []) ⟨hx, hb, hml, hown, hts⟩ (x7_isRegister Z b) (va_cwS 1 hts (lw_S q2104 q2105 q107 q2106) rfl rfl rfl (by decide +kernel) ⟨Nat.le_of_ble_eq_true rfl, Nat.le_of_ble_eq_true rfl⟩) (gP_S hG hS (fun q _ h => h.elim) trivial) rfl rfl hl.1 rfl (lv_room (Nat.le_of_ble_eq_true rfl)) dX7_combine_32 ⟨by first | decide | omega, by first | decide | omega⟩) ?_
        refine lv_if_ne (tgt := 44) hx hb dX7_combine_35 (by decide) (fun c_35 => ?_) (fun c_35 => ?_)
        · have h_b := bI_1 c_35
          obtain ⟨jb, hj_b, rfl⟩ := inB_nat (by decide) h_b
          refine lv_aload_n hx hb dX7_combine_44 rfl (lv_at hl 0 rfl) ?_
          refine lv_iload_n hx hb dX7_combine_45 rfl (lv_at hl 1 rfl) ?_
          refine lv_iload_n hx hb dX7_combine_46 rfl (lv_at hl 3 rfl) ?_
          refine lv_iload hx hb dX7_combine_47 (lv_at hl 4 rfl) ?_
          refine lv_bipush (v := nI 24) hx hb dX7_combine_49 (by decide) ?_
          have hF9 := va_free (wc := [(o 0, .inr (2, mFs o th p0 q0 r0 mu zz)), (o 5, .inl (dA 1, 2640, .inr (.inl fA))), (o 6, .inl (dA 1, 32, .inr (.inl fM)))]) hD hS (fun q h => hA q h) [0, 1, 2] rfl
          refine c_i (wr := []) (va_runV (As := [.int (nI jxop), .int (nI ja), .int (nI jb), .int (nI 24)]) (rest := []) ⟨hx, hb, hml, hown, hts⟩ (x7_carriesOut Z (va_A [(o 0, .inr (2, mFs o th p0 q0 r0 mu zz)), (o 5, .inl (dA 1, 2640, .inr (.inl fA))), (o 6, .inl (dA 1, 32, .inr (.inl fM)))] s.heap.size) s.heap.size (fun q h => Or.inr h) o th p0 q0 r0 mu zz fA fM jxop ja jb 24 (Ms ja) (Ms jb) (by omega) (by omega) (by omega) (by omega) (by omega) (by omega) (by omega) (by omega) (hR ja (by omega)) (hR jb (by omega)) (sR ja (by omega)) (sR jb (by omega))) (cwV 4 hts (lw_V q2107 q2109 qs35 q107 q2110) rfl rfl rfl (by decide +kernel) ⟨Nat.le_of_ble_eq_true rfl, Nat.le_of_ble_eq_true rfl⟩) (gP_V (va_recv hK hP (ci := 2) (q0 := 0) rfl rfl) hG hS (fun q _ h => hF9 q h) ⟨rfl, (hP.sub (ws' := [(o 0, .inr (2, mFs o th p0 q0 r0 mu zz)), (o 5, .inl (dA 1, 2640, .inr (.inl fA))), (o 6, .inl (dA 1, 32, .inr (.inl fM)))]) [0, 1, 2] rfl), (hD.sub (ws' := [(o 0, .inr (2, mFs o th p0 q0 r0 mu zz)), (o 5, .inl (dA 1, 2640, .inr (.inl fA))), (o 6, .inl (dA 1, 32, .inr (.inl fM)))]) [0, 1, 2] (by decide) rfl).self⟩) rfl rfl hl.1 rfl (lv_room (Nat.le_of_ble_eq_true rfl)) dX7_combine_51 ⟨by first | decide | omega, by first | decide | omega⟩) hP hD hS hA [0, 1, 2] [] rfl rfl (by decide) (by decide) (fun r9 u9 H locs hq hX hz hk hP hD hS => ?_)
          obtain ⟨fA_3, fM_4, mu_5⟩ := u9
          obtain ⟨r_6, rfl⟩ : ∃ z, z = r9 := ⟨_, rfl⟩
          have hq_7 := hq
          try dsimp only at hq_7
          have hP : va_P (dC, dI) vwCl [(o 0, .inr (2, mFs o th p0 q0 r0 mu_5 zz)), (o 5, .inl (dA 1, 2640, .inr (.inl fA_3))), (o 6, .inl (dA 1, 32, .inr (.inl fM_4)))] H := hP
          have hD : va_D A [(o 0, .inr (2, mFs o th p0 q0 r0 mu_5 zz)), (o 5, .inl (dA 1, 2640, .inr (.inl fA_3))), (o 6, .inl (dA 1, 32, .inr (.inl fM_4)))] := hD
          rcases hq_7 with ⟨P_8, e_8, rfl, hH_8, hS_8⟩ | ⟨e_8, rfl, hE_8⟩
          · have sm_9 : MSm P_8 := cmbS_sm (by omega) (sR ja (by omega)) (sR jb (by omega)) e_8
            have hh_10 := hS_8.hold (k := jt) (by omega) (hR jt (by omega))
            have hh_11 := hS_8.hold (k := ja) (by omega) (hR ja (by omega))
            have hh_12 := hS_8.hold (k := jb) (by omega) (hR jb (by omega))
            refine lv_if_eq (tgt := 67) hx hb dX7_combine_54 (by decide) (fun c_54 => ?_) (fun c_54 => ?_)
            · exact absurd c_54 (by decide)
            refine lv_aload_n hx hb dX7_combine_57 rfl (lv_at hl 0 rfl) ?_
            refine lv_bipush (v := nI 24) hx hb dX7_combine_58 (by decide) ?_
            refine lv_iload_n hx hb dX7_combine_60 rfl (lv_at hl 2 rfl) ?_
            have hF9 := va_free (wc := [(o 0, .inr (2, mFs o th p0 q0 r0 mu_5 zz)), (o 5, .inl (dA 1, 2640, .inr (.inl fA_3)))]) hD hS (fun q h => hA q h) [0, 1] rfl
            refine c_i (wr := [(o 6, .inl (dA 1, 32, .inr (.inl fM_4)))]) (va_runV (As := [.int (nI 24), .int (nI jt)]) (rest := []) ⟨hx, hb, hml, hown, hts⟩ (x7_gives Z (va_A [(o 0, .inr (2, mFs o th p0 q0 r0 mu_5 zz)), (o 5, .inl (dA 1, 2640, .inr (.inl fA_3)))] H.size) H.size (fun q h => Or.inr h) o th p0 q0 r0 mu_5 zz fA_3 fM_4 24 jt (by omega) (by omega)) (cwV 2 hts (lw_V q2181 q2183 qs48 q107 q2184) rfl rfl rfl (by decide +kernel) ⟨Nat.le_of_ble_eq_true rfl, Nat.le_of_ble_eq_true rfl⟩) (gP_V (va_recv hK hP (ci := 2) (q0 := 0) rfl rfl) hG hS (fun q _ h => hF9 q h) ⟨rfl, (hP.sub (ws' := [(o 0, .inr (2, mFs o th p0 q0 r0 mu_5 zz)), (o 5, .inl (dA 1, 2640, .inr (.inl fA_3)))]) [0, 1] rfl), (hD.sub (ws' := [(o 0, .inr (2, mFs o th p0 q0 r0 mu_5 zz)), (o 5, .inl (dA 1, 2640, .inr (.inl fA_3)))]) [0, 1] (by decide) rfl).self⟩) rfl rfl hl.1 rfl (lv_room (Nat.le_of_ble_eq_true rfl)) dX7_combine_61 ⟨by first | decide | omega, by first | decide | omega⟩) hP hD hS hA [0, 1] [2] rfl rfl (by decide) (by decide) (fun r9 u9 H locs hq hX hz hk hP hD hS => ?_)
            obtain ⟨r_13, rfl⟩ : ∃ z, z = r9 := ⟨_, rfl⟩
            obtain rfl := hq
            have hP : va_P (dC, dI) vwCl [(o 6, .inl (dA 1, 32, .inr (.inl fM_4))), (o 0, .inr (2, mFs o (nI 0) p0 q0 r0 mu_5 zz)), (o 5, .inl (dA 1, 2640, .inr (.inl (cpS fA_3 24 jt))))] H := hP
            have hD : va_D A [(o 6, .inl (dA 1, 32, .inr (.inl fM_4))), (o 0, .inr (2, mFs o (nI 0) p0 q0 r0 mu_5 zz)), (o 5, .inl (dA 1, 2640, .inr (.inl (cpS fA_3 24 jt))))] := hD
            have hc_15 := cpS_hold (t := jt) hH_8
            have hs_16 := cpS_same (fA := fA_3) (k := 24) (t := jt)
            generalize cpS fA_3 24 jt = fA_14 at hP hD hc_15 hs_16 ⊢
            have hh_17 := hs_16.hold (j := 24) (by omega) hH_8
            refine lv_goto (tgt := 72) hx hb dX7_combine_64 (by decide) ?_
            subst hQe
            exact W.iret (v := nI (cntN (fun j => fA_14 (33 * jt + 1 + j)) 32)) hx hb hr (fun t ht hW => ⟨⟨_, (fA_14, fM_4, mu_5, nI 0), rfl, (by rw [rg_n (show jt < 8 by omega)]; exact ModPost.mk1 (P := P_8) (by simp [cmbX, rgB, optC, h_xop, h_t, h_a, h_b, e_8, rg_n (show jt < 8 by omega), rg_n (show ja < 8 by omega), rg_n (show jb < 8 by omega), nI_clamp (show jxop < 2 ^ 31 by omega), nI_clamp (show jt < 2 ^ 31 by omega), nI_clamp (show ja < 2 ^ 31 by omega), nI_clamp (show jb < 2 ^ 31 by omega)]) hc_15 (fun k9 hk9 i9 hi9 => by (try dsimp only [outH] at hk9); show fA_14 (33 * k9 + i9) = fA (33 * k9 + i9); rw [hs_16 _ (by omega), hS_8 k9 (by omega) i9 hi9])), B1_at ht (hP.sub [1, 2, 0] rfl) (hD.sub [1, 2, 0] (by decide) rfl) trivial⟩, hS.F ht⟩) hS.2.2 dX7_combine_72
          · have hh_18 := hE_8.hold (k := jt) (by omega) (hR jt (by omega))
            have hh_19 := hE_8.hold (k := ja) (by omega) (hR ja (by omega))
            have hh_20 := hE_8.hold (k := jb) (by omega) (hR jb (by omega))
            refine lv_if_eq (tgt := 67) hx hb dX7_combine_54 (by decide) (fun c_54 => ?_) (fun c_54 => ?_)
            rotate_left
            · exact absurd (by decide) c_54
            refine lv_aload_n hx hb dX7_combine_67 rfl (lv_at hl 0 rfl) ?_
            refine lv_iconst (v := nI 3) hx hb dX7_combine_68 (by decide) ?_
            have hF9 := va_free (wc := [(o 0, .inr (2, mFs o th p0 q0 r0 mu_5 zz))]) hD hS (fun q h => hA q h) [0] rfl
            refine c_i (wr := [(o 5, .inl (dA 1, 2640, .inr (.inl fA_3))), (o 6, .inl (dA 1, 32, .inr (.inl fM_4)))]) (va_runV (As := [.int (nI 3)]) (rest := []) ⟨hx, hb, hml, hown, hts⟩ (x7_refuses Z (va_A [(o 0, .inr (2, mFs o th p0 q0 r0 mu_5 zz))] H.size) H.size (fun q h => Or.inr h) o th p0 q0 r0 mu_5 zz (nI 3)) (cwV 1 hts (lw_V q2100 q2102 qs34 q107 q2103) rfl rfl rfl (by decide +kernel) ⟨Nat.le_of_ble_eq_true rfl, Nat.le_of_ble_eq_true rfl⟩) (gP_V (va_recv hK hP (ci := 2) (q0 := 0) rfl rfl) hG hS (fun q _ h => hF9 q h) ⟨rfl, (hP.sub (ws' := [(o 0, .inr (2, mFs o th p0 q0 r0 mu_5 zz))]) [0] rfl), (hD.sub (ws' := [(o 0, .inr (2, mFs o th p0 q0 r0 mu_5 zz))]) [0] (by decide) rfl).self⟩) rfl rfl hl.1 rfl (lv_room (Nat.le_of_ble_eq_true rfl)) dX7_combine_69 ⟨by first | decide | omega, by first | decide | omega⟩) hP hD hS hA [0] [1, 2] rfl rfl (by decide) (by decide) (fun r9 u9 H locs hq hX hz hk hP hD hS => ?_)
            obtain ⟨r_21, rfl⟩ : ∃ z, z = r9 := ⟨_, rfl⟩
            obtain rfl := hq
            have hP : va_P (dC, dI) vwCl [(o 5, .inl (dA 1, 2640, .inr (.inl fA_3))), (o 6, .inl (dA 1, 32, .inr (.inl fM_4))), (o 0, .inr (2, mFs o (nI 3) p0 q0 r0 mu_5 zz))] H := hP
            have hD : va_D A [(o 5, .inl (dA 1, 2640, .inr (.inl fA_3))), (o 6, .inl (dA 1, 32, .inr (.inl fM_4))), (o 0, .inr (2, mFs o (nI 3) p0 q0 r0 mu_5 zz))] := hD
            subst hQe
            exact W.iret (v := nI 0) hx hb hr (fun t ht hW => ⟨⟨_, (fA_3, fM_4, mu_5, nI 3), rfl, ModPost.mk0 (c := nI 3) (by simp [cmbX, rgB, optC, h_xop, h_t, h_a, h_b, e_8, rg_n (show jt < 8 by omega), rg_n (show ja < 8 by omega), rg_n (show jb < 8 by omega), nI_clamp (show jxop < 2 ^ 31 by omega), nI_clamp (show jt < 2 ^ 31 by omega), nI_clamp (show ja < 2 ^ 31 by omega), nI_clamp (show jb < 2 ^ 31 by omega)]) (fun k9 hk9 i9 hi9 => by (try dsimp only [outH] at hk9); show fA_3 (33 * k9 + i9) = fA (33 * k9 + i9); rw [hE_8 k9 (by omega) i9 hi9]), B1_at ht (hP.sub [2, 0, 1] rfl) (hD.sub [2, 0, 1] (by decide) rfl) trivial⟩, hS.F ht⟩) hS.2.2 dX7_combine_72
        · have h_b := bI_0 c_35
          refine lv_aload_n hx hb dX7_combine_38 rfl (lv_at hl 0 rfl) ?_
          refine lv_iconst (v := nI 2) hx hb dX7_combine_39 (by decide) ?_
          have hF9 := va_free (wc := [(o 0, .inr (2, mFs o th p0 q0 r0 mu zz))]) hD hS (fun q h => hA q h) [0] rfl
          refine c_i (wr := [(o 5, .inl (dA 1, 2640, .inr (.inl fA))), (o 6, .inl (dA 1, 32, .inr (.inl fM)))]) (va_runV (As := [.int (nI 2)]) (rest := []) ⟨hx, hb, hml, hown, hts⟩ (x7_refuses Z (va_A [(o 0, .inr (2, mFs o th p0 q0 r0 mu zz))] s.heap.size) s.heap.size (fun q h => Or.inr h) o th p0 q0 r0 mu zz (nI 2)) (cwV 1 hts (lw_V q2100 q2102 qs34 q107 q2103) rfl rfl rfl (by decide +kernel) ⟨Nat.le_of_ble_eq_true rfl, Nat.le_of_ble_eq_true rfl⟩) (gP_V (va_recv hK hP (ci := 2) (q0 := 0) rfl rfl) hG hS (fun q _ h => hF9 q h) ⟨rfl, (hP.sub (ws' := [(o 0, .inr (2, mFs o th p0 q0 r0 mu zz))]) [0] rfl), (hD.sub (ws' := [(o 0, .inr (2, mFs o th p0 q0 r0 mu zz))]) [0] (by decide) rfl).self⟩) rfl rfl hl.1 rfl (lv_room (Nat.le_of_ble_eq_true rfl)) dX7_combine_40 ⟨by first | decide | omega, by first | decide | omega⟩) hP hD hS hA [0] [1, 2] rfl rfl (by decide) (by decide) (fun r9 u9 H locs hq hX hz hk hP hD hS => ?_)
          obtain ⟨r_22, rfl⟩ : ∃ z, z = r9 := ⟨_, rfl⟩
          obtain rfl := hq
          have hP : va_P (dC, dI) vwCl [(o 5, .inl (dA 1, 2640, .inr (.inl fA))), (o 6, .inl (dA 1, 32, .inr (.inl fM))), (o 0, .inr (2, mFs o (nI 2) p0 q0 r0 mu zz))] H := hP
          have hD : va_D A [(o 5, .inl (dA 1, 2640, .inr (.inl fA))), (o 6, .inl (dA 1, 32, .inr (.inl fM))), (o 0, .inr (2, mFs o (nI 2) p0 q0 r0 mu zz))] := hD
          subst hQe
          exact W.iret (v := nI 0) hx hb hr (fun t ht hW => ⟨⟨_, (fA, fM, mu, nI 2), rfl, ModPost.mk0 (c := nI 2) (by simp [cmbX, rgB, optC, h_xop, h_t, h_a, h_b, rg_n (show jt < 8 by omega), rg_n (show ja < 8 by omega), nI_clamp (show jxop < 2 ^ 31 by omega), nI_clamp (show jt < 2 ^ 31 by omega), nI_clamp (show ja < 2 ^ 31 by omega)]) (fun k9 hk9 i9 hi9 => rfl), B1_at ht (hP.sub [2, 0, 1] rfl) (hD.sub [2, 0, 1] (by decide) rfl) trivial⟩, hS.F ht⟩) hS.2.2 dX7_combine_43
  · have h_xop := bI_0 c_7
    refine lv_aload_n hx hb dX7_combine_10 rfl (lv_at hl 0 rfl) ?_
    refine lv_iconst (v := nI 1) hx hb dX7_combine_11 (by decide) ?_
    have hF9 := va_free (wc := [(o 0, .inr (2, mFs o th p0 q0 r0 mu zz))]) hD hS (fun q h => hA q h) [0] rfl
    refine c_i (wr := [(o 5, .inl (dA 1, 2640, .inr (.inl fA))), (o 6, .inl (dA 1, 32, .inr (.inl fM)))]) (va_runV (As := [.int (nI 1)]) (rest := []) ⟨hx, hb, hml, hown, hts⟩ (x7_refuses Z (va_A [(o 0, .inr (2, mFs o th p0 q0 r0 mu zz))] s.heap.size) s.heap.size (fun q h => Or.inr h) o th p0 q0 r0 mu zz (nI 1)) (cwV 1 hts (lw_V q2100 q2102 qs34 q107 q2103) rfl rfl rfl (by decide +kernel) ⟨Nat.le_of_ble_eq_true rfl, Nat.le_of_ble_eq_true rfl⟩) (gP_V (va_recv hK hP (ci := 2) (q0 := 0) rfl rfl) hG hS (fun q _ h => hF9 q h) ⟨rfl, (hP.sub (ws' := [(o 0, .inr (2, mFs o th p0 q0 r0 mu zz))]) [0] rfl), (hD.sub (ws' := [(o 0, .inr (2, mFs o th p0 q0 r0 mu zz))]) [0] (by decide) rfl).self⟩) rfl rfl hl.1 rfl (lv_room (Nat.le_of_ble_eq_true rfl)) dX7_combine_12 ⟨by first | decide | omega, by first | decide | omega⟩) hP hD hS hA [0] [1, 2] rfl rfl (by decide) (by decide) (fun r9 u9 H locs hq hX hz hk hP hD hS => ?_)
    obtain ⟨r_23, rfl⟩ : ∃ z, z = r9 := ⟨_, rfl⟩
    obtain rfl := hq
    have hP : va_P (dC, dI) vwCl [(o 5, .inl (dA 1, 2640, .inr (.inl fA))), (o 6, .inl (dA 1, 32, .inr (.inl fM))), (o 0, .inr (2, mFs o (nI 1) p0 q0 r0 mu zz))] H := hP
    have hD : va_D A [(o 5, .inl (dA 1, 2640, .inr (.inl fA))), (o 6, .inl (dA 1, 32, .inr (.inl fM))), (o 0, .inr (2, mFs o (nI 1) p0 q0 r0 mu zz))] := hD
    subst hQe
    exact W.iret (v := nI 0) hx hb hr (fun t ht hW => ⟨⟨_, (fA, fM, mu, nI 1), rfl, ModPost.mk0 (c := nI 1) (by simp [cmbX, rgB, optC, h_xop]) (fun k9 hk9 i9 hi9 => rfl), B1_at ht (hP.sub [2, 0, 1] rfl) (hD.sub [2, 0, 1] (by decide) rfl) trivial⟩, hS.F ht⟩) hS.2.2 dX7_combine_15
set_option maxHeartbeats 4000000 in
theorem x7_inverts {l : Launch} {dC : Nat → ClassId} {dI : Nat → Nat → Nat} {dA : Nat → ClassId} {s0 : State} {b0 : Addr} (Z : Z0 l dC dI dA s0 b0) (A : Nat → Prop) (sz : Nat) (hA : ∀ q : Nat, sz ≤ q → A q) (o : Nat → Nat) (th : Int32) (p0 q0 r0 : Nat) (mu : Int64) (zz : Nat → Int32) (fA fM : Nat → Int64) (Ms : Nat → MV) (jt ja : Nat) (hn : p0 + q0 + r0 ≤ 5) (hR : ∀ k, k < 8 → Hold fA k (Ms k)) (sR : ∀ k, k < 8 → MSm (Ms k)) (hjt : jt < 8) (hja : ja < 8) : Met l yX7_inverts (ws_ yX7_inverts cX7_inverts 3 (some .int)) ({ frames := 6, cells := 0, slots := 0, locals := 360 } : Room) (gP [.ref (o 0), .int (nI jt), .int (nI ja)] s0 A (fun H => H.size = sz ∧ va_P (dC, dI) vwCl [(o 0, .inr (2, mFs o th p0 q0 r0 mu zz)), (o 5, .inl (dA 1, 2640, .inr (.inl fA))), (o 6, .inl (dA 1, 32, .inr (.inl fM)))] H ∧ va_D A [(o 0, .inr (2, mFs o th p0 q0 r0 mu zz)), (o 5, .inl (dA 1, 2640, .inr (.inl fA))), (o 6, .inl (dA 1, 32, .inr (.inl fM)))])) (va_Qi (S := (Nat → Int64) × (Nat → Int64) × Int64 × Int32) (fun r u => ModPost fA jt (invS p0 q0 r0 (Ms ja)) u.2.2.2 r u.1) (B1 (dC, dI) A (fun u => mC dA o u.2.2.2 p0 q0 r0 u.2.2.1 zz u.1 u.2.1) (fun _ _ => True)) A) 0 0 A := by
  refine Met.ofW (cc := cX7_inverts) (maxL := 3) (ret := (some .int)) (by decide) rfl ?_
  intro p e s m args below meth c s₁ B hml hv
  obtain ⟨hav, hG, hsz, hP, hD⟩ := hv
  have hx := B.exec
  have hb := B.bytes
  have hr := B.returns
  have hts := atoms_spec (ws := (ws_ yX7_inverts cX7_inverts 3 (some .int))) B.pre
  have hts : ∀ w ∈ lw_all, w.before _ s = true := fun w h => hts w (List.mem_cons_of_mem _ h)
  have hown : s.vm.findClass RX7 = some m.cls := findClass_of_methodNamed B.named
  have hlocks := B.notSynchronized
  have hK := hG.K Z
  subst hsz
  have hS : va_S A s.heap s.heap [] := va_S.rf
  have hl := lv_entry ([.ref (o 0), .int (nI jt), .int (nI ja)]) (n := 3) (Nat.le_of_ble_eq_true rfl)
  rw [show entryFrame m args 3 = entryFrame m ([.ref (o 0), .int (nI jt), .int (nI ja)] : List Value).toArray 3 from by rw [hav], lg_entry_eq]
  generalize (lg_sl ([.ref (o 0), .int (nI jt), .int (nI ja)]) ++ List.replicate (3 - (lg_sl ([.ref (o 0), .int (nI jt), .int (nI ja)])).length) Slot.unset).toArray = ls at hl ⊢
  have hl : lv_has ls 3 [(0, .ref (o 0)), (1, .int (nI jt)), (2, .int (nI ja))] := hl
  generalize hQe : MQ below _ _ s _ _ _ = Q
  change W p l e ({ frames := 6, cells := 0, slots := 0, locals := 360 } : Room) s m args below meth c s.heap [] 0 0 Q (F0 m 0 ls [])
  refine lv_aload_n hx hb dX7_inverts_0 rfl (lv_at hl 0 rfl) ?_
  refine lv_iload_n hx hb dX7_inverts_1 rfl (lv_at hl 2 rfl) ?_
  refine lv_bipush (v := nI 25) hx hb dX7_inverts_2 (by decide) ?_
  have hF9 := va_free (wc := [(o 0, .inr (2, mFs o th p0 q0 r0 mu zz)), (o 5, .inl (dA 1, 2640, .inr (.inl fA))), (o 6, .inl (dA 1, 32, .inr (.inl fM)))]) hD hS (fun q h => hA q h) [0, 1, 2] rfl
  refine c_i (wr := []) (va_runV (As := [.int (nI ja), .int (nI 25)]) (rest := []) ⟨hx, hb, hml, hown, hts⟩ (x7_laysSquare Z (va_A [(o 0, .inr (2, mFs o th p0 q0 r0 mu zz)), (o 5, .inl (dA 1, 2640, .inr (.inl fA))), (o 6, .inl (dA 1, 32, .inr (.inl fM)))] s.heap.size) s.heap.size (fun q h => Or.inr h) o th p0 q0 r0 mu zz fA fM ja 25 (Ms ja) (by omega) (by omega) (by omega) (by omega) (by omega) (hR ja (by omega)) (sR ja (by omega))) (cwV 2 hts (lw_V q2201 q2203 qs52 q107 q2204) rfl rfl rfl (by decide +kernel) ⟨Nat.le_of_ble_eq_true rfl, Nat.le_of_ble_eq_true rfl⟩) (gP_V (va_recv hK hP (ci := 2) (q0 := 0) rfl rfl) hG hS (fun q _ h => hF9 q h) ⟨rfl, (hP.sub (ws' := [(o 0, .inr (2, mFs o th p0 q0 r0 mu zz)), (o 5, .inl (dA 1, 2640, .inr (.inl fA))), (o 6, .inl (dA 1, 32, .inr (.inl fM)))]) [0, 1, 2] rfl), (hD.sub (ws' := [(o 0, .inr (2, mFs o th p0 q0 r0 mu zz)), (o 5, .inl (dA 1, 2640, .inr (.inl fA))), (o 6, .inl (dA 1, 32, .inr (.inl fM)))]) [0, 1, 2] (by decide) rfl).self⟩) rfl rfl hl.1 rfl (lv_room (Nat.le_of_ble_eq_true rfl)) dX7_inverts_4 ⟨by first | decide | omega, by first | decide | omega⟩) hP hD hS hA [0, 1, 2] [] rfl rfl (by decide) (by decide) (fun r9 u9 H locs hq hX hz hk hP hD hS => ?_)
  obtain ⟨fA_1, fM_2, mu_3⟩ := u9
  obtain ⟨r_4, rfl⟩ : ∃ z, z = r9 := ⟨_, rfl⟩
  have hq_5 := hq
  try dsimp only at hq_5
  have hP : va_P (dC, dI) vwCl [(o 0, .inr (2, mFs o th p0 q0 r0 mu_3 zz)), (o 5, .inl (dA 1, 2640, .inr (.inl fA_1))), (o 6, .inl (dA 1, 32, .inr (.inl fM_2)))] H := hP
  have hD : va_D A [(o 0, .inr (2, mFs o th p0 q0 r0 mu_3 zz)), (o 5, .inl (dA 1, 2640, .inr (.inl fA_1))), (o 6, .inl (dA 1, 32, .inr (.inl fM_2)))] := hD
  obtain ⟨hR_6, hq_5⟩ := hq_5
  have smR_6 := trnS_sm (op := 0) (p := p0) (q := q0) (r := r0) (by omega) (sR ja (by omega))
  rcases hq_5 with ⟨P_6, e_6, rfl, hH_6, hS_6⟩ | ⟨e_6, rfl, hE_6⟩
  · have sm_7 : MSm P_6 := mulS_sm (sR ja (by omega)) smR_6 e_6
    have hh_8 := hS_6.hold (k := jt) (by omega) (hR jt (by omega))
    have hh_9 := hS_6.hold (k := ja) (by omega) (hR ja (by omega))
    refine lv_if_ne (tgt := 16) hx hb dX7_inverts_7 (by decide) (fun c_7 => ?_) (fun c_7 => ?_)
    rotate_left
    · exact absurd c_7 (by decide)
    refine lv_aload_n hx hb dX7_inverts_16 rfl (lv_at hl 0 rfl) ?_
    refine lv_bipush (v := nI 25) hx hb dX7_inverts_17 (by decide) ?_
    refine s_i (va_runV (As := [.int (nI 25)]) (rest := []) ⟨hx, hb, hml, hown, hts⟩ (x7_isNumber Z o th p0 q0 r0 mu_3 zz fA_1 25 P_6 (by omega) hH_6) (cwV 1 hts (lw_V q2205 q2207 qs53 q107 q2208) rfl rfl rfl (by decide +kernel) ⟨Nat.le_of_ble_eq_true rfl, Nat.le_of_ble_eq_true rfl⟩) (gP_V (va_recv hK hP (ci := 2) (q0 := 0) rfl rfl) hG hS (fun q _ h => h.elim) (hP.sub (ws' := [(o 0, .inr (2, mFs o th p0 q0 r0 mu_3 zz)), (o 5, .inl (dA 1, 2640, .inr (.inl fA_1)))]) [0, 1] rfl)) rfl rfl hl.1 rfl (lv_room (Nat.le_of_ble_eq_true rfl)) dX7_inverts_19 ⟨by first | decide | omega, by first | decide | omega⟩) ?_
    refine lv_if_ne (tgt := 31) hx hb dX7_inverts_22 (by decide) (fun c_22 => ?_) (fun c_22 => ?_)
    · have hN9 := bI_1 c_22
      refine lv_aload_n hx hb dX7_inverts_31 rfl (lv_at hl 0 rfl) ?_
      refine lv_bipush (v := nI 31) hx hb dX7_inverts_32 (by decide) ?_
      refine lv_aload_n hx hb dX7_inverts_34 rfl (lv_at hl 0 rfl) ?_
      refine lv_bipush (v := nI 25) hx hb dX7_inverts_35 (by decide) ?_
      refine s_l (va_runV (As := [.int (nI 25)]) (rest := [.int (nI 31), .ref (o 0)]) ⟨hx, hb, hml, hown, hts⟩ (x7_under Z o th p0 q0 r0 mu_3 zz fA_1 25 (by omega)) (cwV 1 hts (lw_V q2123 q2125 qs39 q107 q2126) rfl rfl rfl (by decide +kernel) ⟨Nat.le_of_ble_eq_true rfl, Nat.le_of_ble_eq_true rfl⟩) (gP_V (va_recv hK hP (ci := 2) (q0 := 0) rfl rfl) hG hS (fun q _ h => h.elim) (hP.sub (ws' := [(o 0, .inr (2, mFs o th p0 q0 r0 mu_3 zz)), (o 5, .inl (dA 1, 2640, .inr (.inl fA_1)))]) [0, 1] rfl)) rfl rfl hl.1 rfl (lv_room (Nat.le_of_ble_eq_true rfl)) dX7_inverts_37 ⟨by first | decide | omega, by first | decide | omega⟩) ?_
      refine e_l (y := P_6 0) (hold_at hH_6 (i := 0) (by omega) (by omega)) ?_
      refine lv_aload_n hx hb dX7_inverts_40 rfl (lv_at hl 0 rfl) ?_
      refine lv_bipush (v := nI 25) hx hb dX7_inverts_41 (by decide) ?_
      refine lv_iconst (v := nI 0) hx hb dX7_inverts_43 (by decide) ?_
      refine s_l (va_runV (As := [.int (nI 25), .int (nI 0)]) (rest := [.long (P_6 0), .int (nI 31), .ref (o 0)]) ⟨hx, hb, hml, hown, hts⟩ (x7_of Z o th p0 q0 r0 mu_3 zz fA_1 25 0 (by omega)) (cwV 2 hts (lw_V q2119 q2121 qs38 q107 q2122) rfl rfl rfl (by decide +kernel) ⟨Nat.le_of_ble_eq_true rfl, Nat.le_of_ble_eq_true rfl⟩) (gP_V (va_recv hK hP (ci := 2) (q0 := 0) rfl rfl) hG hS (fun q _ h => h.elim) (hP.sub (ws' := [(o 0, .inr (2, mFs o th p0 q0 r0 mu_3 zz)), (o 5, .inl (dA 1, 2640, .inr (.inl fA_1)))]) [0, 1] rfl)) rfl rfl hl.1 rfl (lv_room (Nat.le_of_ble_eq_true rfl)) dX7_inverts_44 ⟨by first | decide | omega, by first | decide | omega⟩) ?_
      refine e_l (y := P_6 1) (hold_at hH_6 (i := 0 + 1) (by omega) (by omega)) ?_
      refine lv_bipush (v := nI 24) hx hb dX7_inverts_47 (by decide) ?_
      have hF9 := va_free (wc := [(o 0, .inr (2, mFs o th p0 q0 r0 mu_3 zz)), (o 5, .inl (dA 1, 2640, .inr (.inl fA_1))), (o 6, .inl (dA 1, 32, .inr (.inl fM_2)))]) hD hS (fun q h => hA q h) [0, 1, 2] rfl
      refine c_i (wr := []) (va_runV (As := [.int (nI 31), .long (P_6 0), .long (P_6 1), .int (nI 24)]) (rest := []) ⟨hx, hb, hml, hown, hts⟩ (x7_scales Z (va_A [(o 0, .inr (2, mFs o th p0 q0 r0 mu_3 zz)), (o 5, .inl (dA 1, 2640, .inr (.inl fA_1))), (o 6, .inl (dA 1, 32, .inr (.inl fM_2)))] H.size) H.size (fun q h => Or.inr h) o th p0 q0 r0 mu_3 zz fA_1 fM_2 31 24 (P_6 0) (P_6 1) (revS p0 q0 r0 (Ms ja)) sm_7.u (sm_7.c (j := 0) (by decide)) (isNumB_1 hN9) (by omega) (by omega) hR_6 smR_6) (cwV 4 hts (lw_V q2176 q2178 qs47 q107 q2179) rfl rfl rfl (by decide +kernel) ⟨Nat.le_of_ble_eq_true rfl, Nat.le_of_ble_eq_true rfl⟩) (gP_V (va_recv hK hP (ci := 2) (q0 := 0) rfl rfl) hG hS (fun q _ h => hF9 q h) ⟨rfl, (hP.sub (ws' := [(o 0, .inr (2, mFs o th p0 q0 r0 mu_3 zz)), (o 5, .inl (dA 1, 2640, .inr (.inl fA_1))), (o 6, .inl (dA 1, 32, .inr (.inl fM_2)))]) [0, 1, 2] rfl), (hD.sub (ws' := [(o 0, .inr (2, mFs o th p0 q0 r0 mu_3 zz)), (o 5, .inl (dA 1, 2640, .inr (.inl fA_1))), (o 6, .inl (dA 1, 32, .inr (.inl fM_2)))]) [0, 1, 2] (by decide) rfl).self⟩) rfl rfl hl.1 rfl (lv_room (Nat.le_of_ble_eq_true rfl)) dX7_inverts_49 ⟨by first | decide | omega, by first | decide | omega⟩) hP hD hS hA [0, 1, 2] [] rfl rfl (by decide) (by decide) (fun r9 u9 H locs hq hX hz hk hP hD hS => ?_)
      obtain ⟨fA_10, fM_11, mu_12⟩ := u9
      obtain ⟨r_13, rfl⟩ : ∃ z, z = r9 := ⟨_, rfl⟩
      have hq_14 := hq
      try dsimp only at hq_14
      have hP : va_P (dC, dI) vwCl [(o 0, .inr (2, mFs o th p0 q0 r0 mu_12 zz)), (o 5, .inl (dA 1, 2640, .inr (.inl fA_10))), (o 6, .inl (dA 1, 32, .inr (.inl fM_11)))] H := hP
      have hD : va_D A [(o 0, .inr (2, mFs o th p0 q0 r0 mu_12 zz)), (o 5, .inl (dA 1, 2640, .inr (.inl fA_10))), (o 6, .inl (dA 1, 32, .inr (.inl fM_11)))] := hD
      rcases hq_14.cases with ⟨P_15, e_15, rfl, hH_15, hS_15⟩ | ⟨e_15, rfl, hE_15⟩
      · have sm_16 : MSm P_15 := scaS_sm (sm_7.c (j := 0) (by decide)) (isNumB_1 hN9) smR_6 e_15
        have hh_17 := hS_15.hold (j := jt) (by omega) hh_8
        have hh_18 := hS_15.hold (j := ja) (by omega) hh_9
        have hh_19 := hS_15.hold (j := 25) (by omega) hH_6
        have hh_20 := hS_15.hold (j := 31) (by omega) hR_6
        refine lv_if_eq (tgt := 65) hx hb dX7_inverts_52 (by decide) (fun c_52 => ?_) (fun c_52 => ?_)
        · exact absurd c_52 (by decide)
        refine lv_aload_n hx hb dX7_inverts_55 rfl (lv_at hl 0 rfl) ?_
        refine lv_bipush (v := nI 24) hx hb dX7_inverts_56 (by decide) ?_
        refine lv_iload_n hx hb dX7_inverts_58 rfl (lv_at hl 1 rfl) ?_
        have hF9 := va_free (wc := [(o 0, .inr (2, mFs o th p0 q0 r0 mu_12 zz)), (o 5, .inl (dA 1, 2640, .inr (.inl fA_10)))]) hD hS (fun q h => hA q h) [0, 1] rfl
        refine c_i (wr := [(o 6, .inl (dA 1, 32, .inr (.inl fM_11)))]) (va_runV (As := [.int (nI 24), .int (nI jt)]) (rest := []) ⟨hx, hb, hml, hown, hts⟩ (x7_gives Z (va_A [(o 0, .inr (2, mFs o th p0 q0 r0 mu_12 zz)), (o 5, .inl (dA 1, 2640, .inr (.inl fA_10)))] H.size) H.size (fun q h => Or.inr h) o th p0 q0 r0 mu_12 zz fA_10 fM_11 24 jt (by omega) (by omega)) (cwV 2 hts (lw_V q2181 q2183 qs48 q107 q2184) rfl rfl rfl (by decide +kernel) ⟨Nat.le_of_ble_eq_true rfl, Nat.le_of_ble_eq_true rfl⟩) (gP_V (va_recv hK hP (ci := 2) (q0 := 0) rfl rfl) hG hS (fun q _ h => hF9 q h) ⟨rfl, (hP.sub (ws' := [(o 0, .inr (2, mFs o th p0 q0 r0 mu_12 zz)), (o 5, .inl (dA 1, 2640, .inr (.inl fA_10)))]) [0, 1] rfl), (hD.sub (ws' := [(o 0, .inr (2, mFs o th p0 q0 r0 mu_12 zz)), (o 5, .inl (dA 1, 2640, .inr (.inl fA_10)))]) [0, 1] (by decide) rfl).self⟩) rfl rfl hl.1 rfl (lv_room (Nat.le_of_ble_eq_true rfl)) dX7_inverts_59 ⟨by first | decide | omega, by first | decide | omega⟩) hP hD hS hA [0, 1] [2] rfl rfl (by decide) (by decide) (fun r9 u9 H locs hq hX hz hk hP hD hS => ?_)
        obtain ⟨r_21, rfl⟩ : ∃ z, z = r9 := ⟨_, rfl⟩
        obtain rfl := hq
        have hP : va_P (dC, dI) vwCl [(o 6, .inl (dA 1, 32, .inr (.inl fM_11))), (o 0, .inr (2, mFs o (nI 0) p0 q0 r0 mu_12 zz)), (o 5, .inl (dA 1, 2640, .inr (.inl (cpS fA_10 24 jt))))] H := hP
        have hD : va_D A [(o 6, .inl (dA 1, 32, .inr (.inl fM_11))), (o 0, .inr (2, mFs o (nI 0) p0 q0 r0 mu_12 zz)), (o 5, .inl (dA 1, 2640, .inr (.inl (cpS fA_10 24 jt))))] := hD
        have hc_23 := cpS_hold (t := jt) hH_15
        have hs_24 := cpS_same (fA := fA_10) (k := 24) (t := jt)
        generalize cpS fA_10 24 jt = fA_22 at hP hD hc_23 hs_24 ⊢
        have hh_25 := hs_24.hold (j := 25) (by omega) hh_19
        have hh_26 := hs_24.hold (j := 31) (by omega) hh_20
        have hh_27 := hs_24.hold (j := 24) (by omega) hH_15
        refine lv_goto (tgt := 70) hx hb dX7_inverts_62 (by decide) ?_
        subst hQe
        exact W.iret (v := nI (cntN (fun j => fA_22 (33 * jt + 1 + j)) 32)) hx hb hr (fun t ht hW => ⟨⟨_, (fA_22, fM_11, mu_12, nI 0), rfl, ModPost.mk1 (P := P_15) (by simp [invS, optC, e_6, hN9, e_15]) hc_23 (fun k9 hk9 i9 hi9 => by (try dsimp only [outH] at hk9); show fA_22 (33 * k9 + i9) = fA (33 * k9 + i9); rw [hs_24 _ (by omega), hS_15 _ (by omega), hS_6 k9 (by omega) i9 hi9]), B1_at ht (hP.sub [1, 2, 0] rfl) (hD.sub [1, 2, 0] (by decide) rfl) trivial⟩, hS.F ht⟩) hS.2.2 dX7_inverts_70
      · have hh_28 : Hold fA_10 jt (Ms jt) := by rw [hE_15]; exact hh_8
        have hh_29 : Hold fA_10 ja (Ms ja) := by rw [hE_15]; exact hh_9
        have hh_30 : Hold fA_10 25 P_6 := by rw [hE_15]; exact hH_6
        have hh_31 : Hold fA_10 31 (revS p0 q0 r0 (Ms ja)) := by rw [hE_15]; exact hR_6
        refine lv_if_eq (tgt := 65) hx hb dX7_inverts_52 (by decide) (fun c_52 => ?_) (fun c_52 => ?_)
        rotate_left
        · exact absurd (by decide) c_52
        refine lv_aload_n hx hb dX7_inverts_65 rfl (lv_at hl 0 rfl) ?_
        refine lv_iconst (v := nI 3) hx hb dX7_inverts_66 (by decide) ?_
        have hF9 := va_free (wc := [(o 0, .inr (2, mFs o th p0 q0 r0 mu_12 zz))]) hD hS (fun q h => hA q h) [0] rfl
        refine c_i (wr := [(o 5, .inl (dA 1, 2640, .inr (.inl fA_10))), (o 6, .inl (dA 1, 32, .inr (.inl fM_11)))]) (va_runV (As := [.int (nI 3)]) (rest := []) ⟨hx, hb, hml, hown, hts⟩ (x7_refuses Z (va_A [(o 0, .inr (2, mFs o th p0 q0 r0 mu_12 zz))] H.size) H.size (fun q h => Or.inr h) o th p0 q0 r0 mu_12 zz (nI 3)) (cwV 1 hts (lw_V q2100 q2102 qs34 q107 q2103) rfl rfl rfl (by decide +kernel) ⟨Nat.le_of_ble_eq_true rfl, Nat.le_of_ble_eq_true rfl⟩) (gP_V (va_recv hK hP (ci := 2) (q0 := 0) rfl rfl) hG hS (fun q _ h => hF9 q h) ⟨rfl, (hP.sub (ws' := [(o 0, .inr (2, mFs o th p0 q0 r0 mu_12 zz))]) [0] rfl), (hD.sub (ws' := [(o 0, .inr (2, mFs o th p0 q0 r0 mu_12 zz))]) [0] (by decide) rfl).self⟩) rfl rfl hl.1 rfl (lv_room (Nat.le_of_ble_eq_true rfl)) dX7_inverts_67 ⟨by first | decide | omega, by first | decide | omega⟩) hP hD hS hA [0] [1, 2] rfl rfl (by decide) (by decide) (fun r9 u9 H locs hq hX hz hk hP hD hS => ?_)
        obtain ⟨r_32, rfl⟩ : ∃ z, z = r9 := ⟨_, rfl⟩
        obtain rfl := hq
        have hP : va_P (dC, dI) vwCl [(o 5, .inl (dA 1, 2640, .inr (.inl fA_10))), (o 6, .inl (dA 1, 32, .inr (.inl fM_11))), (o 0, .inr (2, mFs o (nI 3) p0 q0 r0 mu_12 zz))] H := hP
        have hD : va_D A [(o 5, .inl (dA 1, 2640, .inr (.inl fA_10))), (o 6, .inl (dA 1, 32, .inr (.inl fM_11))), (o 0, .inr (2, mFs o (nI 3) p0 q0 r0 mu_12 zz))] := hD
        subst hQe
        exact W.iret (v := nI 0) hx hb hr (fun t ht hW => ⟨⟨_, (fA_10, fM_11, mu_12, nI 3), rfl, ModPost.mk0 (c := nI 3) (by simp [invS, optC, e_6, hN9, e_15]) (fun k9 hk9 i9 hi9 => by (try dsimp only [outH] at hk9); show fA_10 (33 * k9 + i9) = fA (33 * k9 + i9); rw [hE_15, hS_6 k9 (by omega) i9 hi9]), B1_at ht (hP.sub [2, 0, 1] rfl) (hD.sub [2, 0, 1] (by decide) rfl) trivial⟩, hS.F ht⟩) hS.2.2 dX7_inverts_70
    · have hN9 := bI_0 c_22
      refine lv_aload_n hx hb dX7_inverts_25 rfl (lv_at hl 0 rfl) ?_
      refine lv_iconst (v := nI 4) hx hb dX7_inverts_26 (by decide) ?_
      have hF9 := va_free (wc := [(o 0, .inr (2, mFs o th p0 q0 r0 mu_3 zz))]) hD hS (fun q h => hA q h) [0] rfl
      refine c_i (wr := [(o 5, .inl (dA 1, 2640, .inr (.inl fA_1))), (o 6, .inl (dA 1, 32, .inr (.inl fM_2)))]) (va_runV (As := [.int (nI 4)]) (rest := []) ⟨hx, hb, hml, hown, hts⟩ (x7_refuses Z (va_A [(o 0, .inr (2, mFs o th p0 q0 r0 mu_3 zz))] H.size) H.size (fun q h => Or.inr h) o th p0 q0 r0 mu_3 zz (nI 4)) (cwV 1 hts (lw_V q2100 q2102 qs34 q107 q2103) rfl rfl rfl (by decide +kernel) ⟨Nat.le_of_ble_eq_true rfl, Nat.le_of_ble_eq_true rfl⟩) (gP_V (va_recv hK hP (ci := 2) (q0 := 0) rfl rfl) hG hS (fun q _ h => hF9 q h) ⟨rfl, (hP.sub (ws' := [(o 0, .inr (2, mFs o th p0 q0 r0 mu_3 zz))]) [0] rfl), (hD.sub (ws' := [(o 0, .inr (2, mFs o th p0 q0 r0 mu_3 zz))]) [0] (by decide) rfl).self⟩) rfl rfl hl.1 rfl (lv_room (Nat.le_of_ble_eq_true rfl)) dX7_inverts_27 ⟨by first | decide | omega, by first | decide | omega⟩) hP hD hS hA [0] [1, 2] rfl rfl (by decide) (by decide) (fun r9 u9 H locs hq hX hz hk hP hD hS => ?_)
      obtain ⟨r_33, rfl⟩ : ∃ z, z = r9 := ⟨_, rfl⟩
      obtain rfl := hq
      have hP : va_P (dC, dI) vwCl [(o 5, .inl (dA 1, 2640, .inr (.inl fA_1))), (o 6, .inl (dA 1, 32, .inr (.inl fM_2))), (o 0, .inr (2, mFs o (nI 4) p0 q0 r0 mu_3 zz))] H := hP
      have hD : va_D A [(o 5, .inl (dA 1, 2640, .inr (.inl fA_1))), (o 6, .inl (dA 1, 32, .inr (.inl fM_2))), (o 0, .inr (2, mFs o (nI 4) p0 q0 r0 mu_3 zz))] := hD
      subst hQe
      exact W.iret (v := nI 0) hx hb hr (fun t ht hW => ⟨⟨_, (fA_1, fM_2, mu_3, nI 4), rfl, ModPost.mk0 (c := nI 4) (by simp [invS, optC, e_6, hN9]) (fun k9 hk9 i9 hi9 => by (try dsimp only [outH] at hk9); show fA_1 (33 * k9 + i9) = fA (33 * k9 + i9); rw [hS_6 k9 (by omega) i9 hi9]), B1_at ht (hP.sub [2, 0, 1] rfl) (hD.sub [2, 0, 1] (by decide) rfl) trivial⟩, hS.F ht⟩) hS.2.2 dX7_inverts_30
  · have hh_34 := hE_6.hold (k := jt) (by omega) (hR jt (by omega))
    have hh_35 := hE_6.hold (k := ja) (by omega) (hR ja (by omega))
    refine lv_if_ne (tgt := 16) hx hb dX7_inverts_7 (by decide) (fun c_7 => ?_) (fun c_7 => ?_)
    · exact absurd (by decide) c_7
    refine lv_aload_n hx hb dX7_inverts_10 rfl (lv_at hl 0 rfl) ?_
    refine lv_iconst (v := nI 3) hx hb dX7_inverts_11 (by decide) ?_
    have hF9 := va_free (wc := [(o 0, .inr (2, mFs o th p0 q0 r0 mu_3 zz))]) hD hS (fun q h => hA q h) [0] rfl
    refine c_i (wr := [(o 5, .inl (dA 1, 2640, .inr (.inl fA_1))), (o 6, .inl (dA 1, 32, .inr (.inl fM_2)))]) (va_runV (As := [.int (nI 3)]) (rest := []) ⟨hx, hb, hml, hown, hts⟩ (x7_refuses Z (va_A [(o 0, .inr (2, mFs o th p0 q0 r0 mu_3 zz))] H.size) H.size (fun q h => Or.inr h) o th p0 q0 r0 mu_3 zz (nI 3)) (cwV 1 hts (lw_V q2100 q2102 qs34 q107 q2103) rfl rfl rfl (by decide +kernel) ⟨Nat.le_of_ble_eq_true rfl, Nat.le_of_ble_eq_true rfl⟩) (gP_V (va_recv hK hP (ci := 2) (q0 := 0) rfl rfl) hG hS (fun q _ h => hF9 q h) ⟨rfl, (hP.sub (ws' := [(o 0, .inr (2, mFs o th p0 q0 r0 mu_3 zz))]) [0] rfl), (hD.sub (ws' := [(o 0, .inr (2, mFs o th p0 q0 r0 mu_3 zz))]) [0] (by decide) rfl).self⟩) rfl rfl hl.1 rfl (lv_room (Nat.le_of_ble_eq_true rfl)) dX7_inverts_12 ⟨by first | decide | omega, by first | decide | omega⟩) hP hD hS hA [0] [1, 2] rfl rfl (by decide) (by decide) (fun r9 u9 H locs hq hX hz hk hP hD hS => ?_)
    obtain ⟨r_36, rfl⟩ : ∃ z, z = r9 := ⟨_, rfl⟩
    obtain rfl := hq
    have hP : va_P (dC, dI) vwCl [(o 5, .inl (dA 1, 2640, .inr (.inl fA_1))), (o 6, .inl (dA 1, 32, .inr (.inl fM_2))), (o 0, .inr (2, mFs o (nI 3) p0 q0 r0 mu_3 zz))] H := hP
    have hD : va_D A [(o 5, .inl (dA 1, 2640, .inr (.inl fA_1))), (o 6, .inl (dA 1, 32, .inr (.inl fM_2))), (o 0, .inr (2, mFs o (nI 3) p0 q0 r0 mu_3 zz))] := hD
    subst hQe
    exact W.iret (v := nI 0) hx hb hr (fun t ht hW => ⟨⟨_, (fA_1, fM_2, mu_3, nI 3), rfl, ModPost.mk0 (c := nI 3) (by simp [invS, optC, e_6]) (fun k9 hk9 i9 hi9 => by (try dsimp only [outH] at hk9); show fA_1 (33 * k9 + i9) = fA (33 * k9 + i9); rw [hE_6 k9 (by omega) i9 hi9]), B1_at ht (hP.sub [2, 0, 1] rfl) (hD.sub [2, 0, 1] (by decide) rfl) trivial⟩, hS.F ht⟩) hS.2.2 dX7_inverts_15
set_option maxHeartbeats 4000000 in
theorem x7_gradesOf {l : Launch} {dC : Nat → ClassId} {dI : Nat → Nat → Nat} {dA : Nat → ClassId} {s0 : State} {b0 : Addr} (Z : Z0 l dC dI dA s0 b0) (o : Nat → Nat) (th : Int32) (p0 q0 r0 : Nat) (mu : Int64) (zz : Nat → Int32) (fA : Nat → Int64) (k1 : Nat) (M : MV) (hk1 : k1 < 80) (hM : Hold fA k1 M) : Met l yX7_gradesOf (ws_ yX7_gradesOf cX7_gradesOf 4 (some .int)) ({ frames := 2, cells := 0, slots := 0, locals := 120 } : Room) (gP [.ref (o 0), .int (nI k1)] s0 (fun _ => False) (fun H => va_P (dC, dI) vwCl [(o 0, .inr (2, mFs o th p0 q0 r0 mu zz)), (o 5, .inl (dA 1, 2640, .inr (.inl fA)))] H)) (vp_Si (fun r => r = nI (grS M))) 0 0 (fun _ => False) := by
  refine Met.ofW (cc := cX7_gradesOf) (maxL := 4) (ret := (some .int)) (by decide) rfl ?_
  intro p e s m args below meth c s₁ B hml hv
  obtain ⟨hav, hG, hP⟩ := hv
  have hx := B.exec
  have hb := B.bytes
  have hr := B.returns
  have hts := atoms_spec (ws := (ws_ yX7_gradesOf cX7_gradesOf 4 (some .int))) B.pre
  have hts : ∀ w ∈ lw_all, w.before _ s = true := fun w h => hts w (List.mem_cons_of_mem _ h)
  have hown : s.vm.findClass RX7 = some m.cls := findClass_of_methodNamed B.named
  have hlocks := B.notSynchronized
  have hK := hG.K Z
  have hS : va_S (fun _ => False) s.heap s.heap [] := va_S.rf
  have hl := lv_entry ([.ref (o 0), .int (nI k1)]) (n := 4) (Nat.le_of_ble_eq_true rfl)
  rw [show entryFrame m args 4 = entryFrame m ([.ref (o 0), .int (nI k1)] : List Value).toArray 4 from by rw [hav], lg_entry_eq]
  generalize (lg_sl ([.ref (o 0), .int (nI k1)]) ++ List.replicate (4 - (lg_sl ([.ref (o 0), .int (nI k1)])).length) Slot.unset).toArray = ls at hl ⊢
  have hl : lv_has ls 4 [(0, .ref (o 0)), (1, .int (nI k1))] := hl
  generalize hQe : MQ below _ _ s _ _ _ = Q
  change W p l e ({ frames := 2, cells := 0, slots := 0, locals := 120 } : Room) s m args below meth c s.heap [] 0 0 Q (F0 m 0 ls [])
  refine lv_iconst (v := nI 0) hx hb dX7_gradesOf_0 (by decide) ?_
  refine lv_istore_n (lv' := [(2, .int (nI 0)), (0, .ref (o 0)), (1, .int (nI k1))]) hx hb dX7_gradesOf_1 rfl hl (by decide) rfl (fun ls hl => ?_)
  refine lv_iconst (v := nI 0) hx hb dX7_gradesOf_2 (by decide) ?_
  refine lv_istore_n (lv' := [(3, .int (nI 0)), (2, .int (nI 0)), (0, .ref (o 0)), (1, .int (nI k1))]) hx hb dX7_gradesOf_3 rfl hl (by decide) rfl (fun ls hl => ?_)
  have loop_1 : ∀ (n9_1 : Nat) (k : Nat) (ls : Array Slot), 32 - k < n9_1 → (k ≤ 32) → lv_has ls 4 [(0, .ref (o 0)), (1, .int (nI k1)), (2, .int (nI (grN M k))), (3, .int (nI k))] → W p l e ({ frames := 2, cells := 0, slots := 0, locals := 120 } : Room) s m args below meth c s.heap [] 0 0 Q (F0 m 4 ls []) := by
    intro n9_1
    induction n9_1 with
    | zero => intro k ls hm_1; exact absurd hm_1 (Nat.not_lt_zero _)
    | succ n9_1 ih_1 =>
      intro k ls hm_1 hk9 hl
      have hc9 := grN_lt M k hk9
      refine lv_iload_n hx hb dX7_gradesOf_4 rfl (lv_at hl 3 rfl) ?_
      refine lv_bipush (v := nI 32) hx hb dX7_gradesOf_5 (by decide) ?_
      refine lv_icmp_ge (tgt := 40) hx hb dX7_gradesOf_7 (by decide) (fun c_7 => ?_) (fun c_7 => ?_)
      · have c_7 : 32 ≤ k := (nI_leI (a := 32) (b := k) (by omega) (by omega)).mp c_7
        obtain rfl : k = 32 := by omega
        refine lv_iload_n hx hb dX7_gradesOf_40 rfl (lv_at hl 2 rfl) ?_
        subst hQe
        exact W.iret (v := nI (grN M 32)) hx hb hr (fun t ht hW => ⟨_, rfl, rfl, ht⟩) hS.2.2 dX7_gradesOf_41
      · have c_7 : ¬ 32 ≤ k := fun h => c_7 ((nI_leI (a := 32) (b := k) (by omega) (by omega)).mpr h)
        refine lv_iload_n hx hb dX7_gradesOf_10 rfl (lv_at hl 2 rfl) ?_
        refine lv_aload_n hx hb dX7_gradesOf_11 rfl (lv_at hl 0 rfl) ?_
        refine lv_iload_n hx hb dX7_gradesOf_12 rfl (lv_at hl 1 rfl) ?_
        refine lv_iload_n hx hb dX7_gradesOf_13 rfl (lv_at hl 3 rfl) ?_
        refine s_l (va_runV (As := [.int (nI k1), .int (nI k)]) (rest := [.int (nI (grN M k))]) ⟨hx, hb, hml, hown, hts⟩ (x7_of Z o th p0 q0 r0 mu zz fA k1 k (by omega)) (cwV 2 hts (lw_V q2119 q2121 qs38 q107 q2122) rfl rfl rfl (by decide +kernel) ⟨Nat.le_of_ble_eq_true rfl, Nat.le_of_ble_eq_true rfl⟩) (gP_V (va_recv hK hP (ci := 2) (q0 := 0) rfl rfl) hG hS (fun q _ h => h.elim) (hP.sub (ws' := [(o 0, .inr (2, mFs o th p0 q0 r0 mu zz)), (o 5, .inl (dA 1, 2640, .inr (.inl fA)))]) [0, 1] rfl)) rfl rfl hl.1 rfl (lv_room (Nat.le_of_ble_eq_true rfl)) dX7_gradesOf_14 ⟨by first | decide | omega, by first | decide | omega⟩) ?_
        refine e_l (y := M (k + 1)) (hold_at hM (i := k + 1) (by omega) (by omega)) ?_
        refine lv_lconst (v := 0) hx hb dX7_gradesOf_17 rfl ?_
        refine W.lcmp hx hb dX7_gradesOf_18 ?_
        refine lv_if_eq (tgt := 31) hx hb dX7_gradesOf_19 (by decide) (fun c_19 => ?_) (fun c_19 => ?_)
        · have c_19 : (M (k + 1)) = 0 := (lg_cmp_eq _ _).mp c_19
          refine lv_iconst (v := nI 0) hx hb dX7_gradesOf_31 (by decide) ?_
          refine lv_ior hx hb dX7_gradesOf_32 ?_
          refine e_i (y := nI ((grN M k) ||| 0)) (n_or _ _) ?_
          refine e_i (y := nI (grN M (k + 1))) (n_eq (Eq.symm (show grN M k ||| (if M (k + 1) = 0 then 0 else 2 ^ popc k) = _ from by rw [if_pos c_19]))) ?_
          refine lv_istore_n (lv' := [(2, .int (nI (grN M (k + 1)))), (0, .ref (o 0)), (1, .int (nI k1)), (3, .int (nI k))]) hx hb dX7_gradesOf_33 rfl hl (by decide) rfl (fun ls hl => ?_)
          refine lv_iinc (v := nI (k + 1)) (lv' := [(3, .int (nI (k + 1))), (2, .int (nI (grN M (k + 1)))), (0, .ref (o 0)), (1, .int (nI k1))]) hx hb dX7_gradesOf_34 hl (k := 3) rfl (by exact nI_add _ 1) (by decide) rfl (fun ls hl => ?_)
          refine lv_goto (tgt := 4) hx hb dX7_gradesOf_37 (by decide) ?_
          exact ih_1 (k + 1) ls (by omega) (by omega) (lv_sub hl [2, 3, 1, 0] rfl)
        · have c_19 : ¬ (M (k + 1)) = 0 := fun h => c_19 ((lg_cmp_eq _ _).mpr h)
          refine lv_iconst (v := nI 1) hx hb dX7_gradesOf_22 (by decide) ?_
          refine lv_iload_n hx hb dX7_gradesOf_23 rfl (lv_at hl 3 rfl) ?_
          refine s_i (va_runS (As := [.int (nI k)]) (rest := [.int (nI 1), .int (nI (grN M k))]) ⟨hx, hb, hml, hown, hts⟩ (x7_size Z k (by omega)) (va_cwS 1 hts (lw_S q2158 q2159 q107 q2160) rfl rfl rfl (by decide +kernel) ⟨Nat.le_of_ble_eq_true rfl, Nat.le_of_ble_eq_true rfl⟩) (gP_S hG hS (fun q _ h => h.elim) trivial) rfl rfl hl.1 rfl (lv_room (Nat.le_of_ble_eq_true rfl)) dX7_gradesOf_24 ⟨by first | decide | omega, by first | decide | omega⟩) ?_
          refine lv_ishl hx hb dX7_gradesOf_27 ?_
          refine e_i (y := nI (1 * 2 ^ (popc k))) (n_shl (by have := popc_le5 k (by omega); omega) (by have h1 := popc_le5 k (by omega); have := Nat.pow_le_pow_right (n := 2) (by decide) h1; omega)) ?_
          refine lv_goto (tgt := 32) hx hb dX7_gradesOf_28 (by decide) ?_
          refine lv_ior hx hb dX7_gradesOf_32 ?_
          refine e_i (y := nI ((grN M k) ||| (1 * 2 ^ (popc k)))) (n_or _ _) ?_
          refine e_i (y := nI (grN M (k + 1))) (n_eq (Eq.symm (show grN M k ||| (if M (k + 1) = 0 then 0 else 2 ^ popc k) = _ from by rw [if_neg c_19, Nat.one_mul]))) ?_
          refine lv_istore_n (lv' := [(2, .int (nI (grN M (k + 1)))), (0, .ref (o 0)), (1, .int (nI k1)), (3, .int (nI k))]) hx hb dX7_gradesOf_33 rfl hl (by decide) rfl (fun ls hl => ?_)
          refine lv_iinc (v := nI (k + 1)) (lv' := [(3, .int (nI (k + 1))), (2, .int (nI (grN M (k + 1)))), (0, .ref (o 0)), (1, .int (nI k1))]) hx hb dX7_gradesOf_34 hl (k := 3) rfl (by exact nI_add _ 1) (by decide) rfl (fun ls hl => ?_)
          refine lv_goto (tgt := 4) hx hb dX7_gradesOf_37 (by decide) ?_
          exact ih_1 (k + 1) ls (by omega) (by omega) (lv_sub hl [2, 3, 1, 0] rfl)
  exact loop_1 _ 0 ls (Nat.lt_succ_self _) (by omega) (lv_sub hl [2, 3, 1, 0] rfl)
set_option maxHeartbeats 4000000 in
theorem x7_isMixed {l : Launch} {dC : Nat → ClassId} {dI : Nat → Nat → Nat} {dA : Nat → ClassId} {s0 : State} {b0 : Addr} (Z : Z0 l dC dI dA s0 b0) (o : Nat → Nat) (th : Int32) (p0 q0 r0 : Nat) (mu : Int64) (zz : Nat → Int32) (fA : Nat → Int64) (k1 : Nat) (M : MV) (hk1 : k1 < 80) (hM : Hold fA k1 M) : Met l yX7_isMixed (ws_ yX7_isMixed cX7_isMixed 3 (some .boolean)) ({ frames := 3, cells := 0, slots := 0, locals := 180 } : Room) (gP [.ref (o 0), .int (nI k1)] s0 (fun _ => False) (fun H => va_P (dC, dI) vwCl [(o 0, .inr (2, mFs o th p0 q0 r0 mu zz)), (o 5, .inl (dA 1, 2640, .inr (.inl fA)))] H)) (vp_Si (fun r => r = bI (mixB M))) 0 0 (fun _ => False) := by
  refine Met.ofW (cc := cX7_isMixed) (maxL := 3) (ret := (some .boolean)) (by decide) rfl ?_
  intro p e s m args below meth c s₁ B hml hv
  obtain ⟨hav, hG, hP⟩ := hv
  have hx := B.exec
  have hb := B.bytes
  have hr := B.returns
  have hts := atoms_spec (ws := (ws_ yX7_isMixed cX7_isMixed 3 (some .boolean))) B.pre
  have hts : ∀ w ∈ lw_all, w.before _ s = true := fun w h => hts w (List.mem_cons_of_mem _ h)
  have hown : s.vm.findClass RX7 = some m.cls := findClass_of_methodNamed B.named
  have hlocks := B.notSynchronized
  have hK := hG.K Z
  have hS : va_S (fun _ => False) s.heap s.heap [] := va_S.rf
  have hl := lv_entry ([.ref (o 0), .int (nI k1)]) (n := 3) (Nat.le_of_ble_eq_true rfl)
  rw [show entryFrame m args 3 = entryFrame m ([.ref (o 0), .int (nI k1)] : List Value).toArray 3 from by rw [hav], lg_entry_eq]
  generalize (lg_sl ([.ref (o 0), .int (nI k1)]) ++ List.replicate (3 - (lg_sl ([.ref (o 0), .int (nI k1)])).length) Slot.unset).toArray = ls at hl ⊢
  have hl : lv_has ls 3 [(0, .ref (o 0)), (1, .int (nI k1))] := hl
  generalize hQe : MQ below _ _ s _ _ _ = Q
  change W p l e ({ frames := 3, cells := 0, slots := 0, locals := 180 } : Room) s m args below meth c s.heap [] 0 0 Q (F0 m 0 ls [])
  have hg9 := grN_lt M 32 (by decide)
  have hg8 : grS M &&& 21 < 64 := Nat.lt_of_le_of_lt Nat.and_le_left hg9
  have hg7 : grS M &&& 42 < 64 := Nat.lt_of_le_of_lt Nat.and_le_left hg9
  refine lv_aload_n hx hb dX7_isMixed_0 rfl (lv_at hl 0 rfl) ?_
  refine lv_iload_n hx hb dX7_isMixed_1 rfl (lv_at hl 1 rfl) ?_
  refine s_i (va_runV (As := [.int (nI k1)]) (rest := []) ⟨hx, hb, hml, hown, hts⟩ (x7_gradesOf Z o th p0 q0 r0 mu zz fA k1 M (by omega) hM) (cwV 1 hts (lw_V q2273 q2275 qs59 q107 q2276) rfl rfl rfl (by decide +kernel) ⟨Nat.le_of_ble_eq_true rfl, Nat.le_of_ble_eq_true rfl⟩) (gP_V (va_recv hK hP (ci := 2) (q0 := 0) rfl rfl) hG hS (fun q _ h => h.elim) (hP.sub (ws' := [(o 0, .inr (2, mFs o th p0 q0 r0 mu zz)), (o 5, .inl (dA 1, 2640, .inr (.inl fA)))]) [0, 1] rfl)) rfl rfl hl.1 rfl (lv_room (Nat.le_of_ble_eq_true rfl)) dX7_isMixed_2 ⟨by first | decide | omega, by first | decide | omega⟩) ?_
  refine lv_istore_n (lv' := [(2, .int (nI (grS M))), (0, .ref (o 0)), (1, .int (nI k1))]) hx hb dX7_isMixed_5 rfl hl (by decide) rfl (fun ls hl => ?_)
  refine lv_iload_n hx hb dX7_isMixed_6 rfl (lv_at hl 0 rfl) ?_
  refine lv_bipush (v := nI 21) hx hb dX7_isMixed_7 (by decide) ?_
  refine lv_iand hx hb dX7_isMixed_9 ?_
  refine e_i (y := nI ((grS M) &&& 21)) (n_and _ _) ?_
  refine lv_if_eq (tgt := 24) hx hb dX7_isMixed_10 (by decide) (fun c_10 => ?_) (fun c_10 => ?_)
  · have c_10 : ((grS M) &&& 21) = 0 := (nI_eq (a := ((grS M) &&& 21)) (b := 0) (by omega) (by omega)).mp c_10
    refine lv_iconst (v := nI 0) hx hb dX7_isMixed_24 (by decide) ?_
    subst hQe
    exact W.zret (v := nI 0) hx hb hr rfl (fun t ht hW => ⟨_, rfl, (by unfold mixB; rw [decide_eq_false (fun h => h c_10)]; rfl), ht⟩) hS.2.2 dX7_isMixed_25
  · have c_10 : ¬ ((grS M) &&& 21) = 0 := fun h => c_10 ((nI_eq (a := ((grS M) &&& 21)) (b := 0) (by omega) (by omega)).mpr h)
    refine lv_iload_n hx hb dX7_isMixed_13 rfl (lv_at hl 0 rfl) ?_
    refine lv_bipush (v := nI 42) hx hb dX7_isMixed_14 (by decide) ?_
    refine lv_iand hx hb dX7_isMixed_16 ?_
    refine e_i (y := nI ((grS M) &&& 42)) (n_and _ _) ?_
    refine lv_if_eq (tgt := 24) hx hb dX7_isMixed_17 (by decide) (fun c_17 => ?_) (fun c_17 => ?_)
    · have c_17 : ((grS M) &&& 42) = 0 := (nI_eq (a := ((grS M) &&& 42)) (b := 0) (by omega) (by omega)).mp c_17
      refine lv_iconst (v := nI 0) hx hb dX7_isMixed_24 (by decide) ?_
      subst hQe
      exact W.zret (v := nI 0) hx hb hr rfl (fun t ht hW => ⟨_, rfl, (by unfold mixB; rw [decide_eq_false (p := grS M &&& 42 ≠ 0) (fun h => h c_17), Bool.and_false]; rfl), ht⟩) hS.2.2 dX7_isMixed_25
    · have c_17 : ¬ ((grS M) &&& 42) = 0 := fun h => c_17 ((nI_eq (a := ((grS M) &&& 42)) (b := 0) (by omega) (by omega)).mpr h)
      refine lv_iconst (v := nI 1) hx hb dX7_isMixed_20 (by decide) ?_
      refine lv_goto (tgt := 25) hx hb dX7_isMixed_21 (by decide) ?_
      subst hQe
      exact W.zret (v := nI 1) hx hb hr rfl (fun t ht hW => ⟨_, rfl, (by unfold mixB; rw [decide_eq_true c_10, decide_eq_true c_17]; rfl), ht⟩) hS.2.2 dX7_isMixed_25
set_option maxHeartbeats 4000000 in
theorem x7_isVector {l : Launch} {dC : Nat → ClassId} {dI : Nat → Nat → Nat} {dA : Nat → ClassId} {s0 : State} {b0 : Addr} (Z : Z0 l dC dI dA s0 b0) (o : Nat → Nat) (th : Int32) (p0 q0 r0 : Nat) (mu : Int64) (zz : Nat → Int32) (fA : Nat → Int64) (k1 : Nat) (M : MV) (hk1 : k1 < 80) (hM : Hold fA k1 M) : Met l yX7_isVector (ws_ yX7_isVector cX7_isVector 2 (some .boolean)) ({ frames := 3, cells := 0, slots := 0, locals := 180 } : Room) (gP [.ref (o 0), .int (nI k1)] s0 (fun _ => False) (fun H => va_P (dC, dI) vwCl [(o 0, .inr (2, mFs o th p0 q0 r0 mu zz)), (o 5, .inl (dA 1, 2640, .inr (.inl fA)))] H)) (vp_Si (fun r => r = bI (vecB M))) 0 0 (fun _ => False) := by
  refine Met.ofW (cc := cX7_isVector) (maxL := 2) (ret := (some .boolean)) (by decide) rfl ?_
  intro p e s m args below meth c s₁ B hml hv
  obtain ⟨hav, hG, hP⟩ := hv
  have hx := B.exec
  have hb := B.bytes
  have hr := B.returns
  have hts := atoms_spec (ws := (ws_ yX7_isVector cX7_isVector 2 (some .boolean))) B.pre
  have hts : ∀ w ∈ lw_all, w.before _ s = true := fun w h => hts w (List.mem_cons_of_mem _ h)
  have hown : s.vm.findClass RX7 = some m.cls := findClass_of_methodNamed B.named
  have hlocks := B.notSynchronized
  have hK := hG.K Z
  have hS : va_S (fun _ => False) s.heap s.heap [] := va_S.rf
  have hl := lv_entry ([.ref (o 0), .int (nI k1)]) (n := 2) (Nat.le_of_ble_eq_true rfl)
  rw [show entryFrame m args 2 = entryFrame m ([.ref (o 0), .int (nI k1)] : List Value).toArray 2 from by rw [hav], lg_entry_eq]
  generalize (lg_sl ([.ref (o 0), .int (nI k1)]) ++ List.replicate (2 - (lg_sl ([.ref (o 0), .int (nI k1)])).length) Slot.unset).toArray = ls at hl ⊢
  have hl : lv_has ls 2 [(0, .ref (o 0)), (1, .int (nI k1))] := hl
  generalize hQe : MQ below _ _ s _ _ _ = Q
  change W p l e ({ frames := 3, cells := 0, slots := 0, locals := 180 } : Room) s m args below meth c s.heap [] 0 0 Q (F0 m 0 ls [])
  have hg9 := grN_lt M 32 (by decide)
  have hg8 : grS M &&& 21 < 64 := Nat.lt_of_le_of_lt Nat.and_le_left hg9
  have hg7 : grS M &&& 42 < 64 := Nat.lt_of_le_of_lt Nat.and_le_left hg9
  have hg6 : grS M &&& 61 < 64 := Nat.lt_of_le_of_lt Nat.and_le_left hg9
  refine lv_aload_n hx hb dX7_isVector_0 rfl (lv_at hl 0 rfl) ?_
  refine lv_iload_n hx hb dX7_isVector_1 rfl (lv_at hl 1 rfl) ?_
  refine s_i (va_runV (As := [.int (nI k1)]) (rest := []) ⟨hx, hb, hml, hown, hts⟩ (x7_gradesOf Z o th p0 q0 r0 mu zz fA k1 M (by omega) hM) (cwV 1 hts (lw_V q2273 q2275 qs59 q107 q2276) rfl rfl rfl (by decide +kernel) ⟨Nat.le_of_ble_eq_true rfl, Nat.le_of_ble_eq_true rfl⟩) (gP_V (va_recv hK hP (ci := 2) (q0 := 0) rfl rfl) hG hS (fun q _ h => h.elim) (hP.sub (ws' := [(o 0, .inr (2, mFs o th p0 q0 r0 mu zz)), (o 5, .inl (dA 1, 2640, .inr (.inl fA)))]) [0, 1] rfl)) rfl rfl hl.1 rfl (lv_room (Nat.le_of_ble_eq_true rfl)) dX7_isVector_2 ⟨by first | decide | omega, by first | decide | omega⟩) ?_
  refine lv_bipush (v := (-3)) hx hb dX7_isVector_5 (by decide) ?_
  refine lv_iand hx hb dX7_isVector_7 ?_
  refine e_i (y := nI (grS M &&& 61)) (vec_and hg9) ?_
  refine lv_if_ne (tgt := 15) hx hb dX7_isVector_8 (by decide) (fun c_8 => ?_) (fun c_8 => ?_)
  · have c_8 : ¬ (grS M &&& 61) = 0 := fun h => c_8 ((nI_eq (a := (grS M &&& 61)) (b := 0) (by omega) (by omega)).mpr h)
    refine lv_iconst (v := nI 0) hx hb dX7_isVector_15 (by decide) ?_
    subst hQe
    exact W.zret (v := nI 0) hx hb hr rfl (fun t ht hW => ⟨_, rfl, (by unfold vecB; rw [decide_eq_false c_8]; rfl), ht⟩) hS.2.2 dX7_isVector_16
  · have c_8 : (grS M &&& 61) = 0 := (nI_eq (a := (grS M &&& 61)) (b := 0) (by omega) (by omega)).mp c_8
    refine lv_iconst (v := nI 1) hx hb dX7_isVector_11 (by decide) ?_
    refine lv_goto (tgt := 16) hx hb dX7_isVector_12 (by decide) ?_
    subst hQe
    exact W.zret (v := nI 1) hx hb hr rfl (fun t ht hW => ⟨_, rfl, (by unfold vecB; rw [decide_eq_true c_8]; rfl), ht⟩) hS.2.2 dX7_isVector_16
set_option maxHeartbeats 4000000 in
theorem x7_areAlike {l : Launch} {dC : Nat → ClassId} {dI : Nat → Nat → Nat} {dA : Nat → ClassId} {s0 : State} {b0 : Addr} (Z : Z0 l dC dI dA s0 b0) (o : Nat → Nat) (th : Int32) (p0 q0 r0 : Nat) (mu : Int64) (zz : Nat → Int32) (fA : Nat → Int64) (k1 k2 : Nat) (M N : MV) (hk1 : k1 < 80) (hk2 : k2 < 80) (hM : Hold fA k1 M) (hN : Hold fA k2 N) : Met l yX7_areAlike (ws_ yX7_areAlike cX7_areAlike 5 (some .boolean)) ({ frames := 2, cells := 0, slots := 0, locals := 120 } : Room) (gP [.ref (o 0), .int (nI k1), .int (nI k2)] s0 (fun _ => False) (fun H => va_P (dC, dI) vwCl [(o 0, .inr (2, mFs o th p0 q0 r0 mu zz)), (o 5, .inl (dA 1, 2640, .inr (.inl fA)))] H)) (vp_Si (fun r => r = bI (likeB M N 33))) 0 0 (fun _ => False) := by
  refine Met.ofW (cc := cX7_areAlike) (maxL := 5) (ret := (some .boolean)) (by decide) rfl ?_
  intro p e s m args below meth c s₁ B hml hv
  obtain ⟨hav, hG, hP⟩ := hv
  have hx := B.exec
  have hb := B.bytes
  have hr := B.returns
  have hts := atoms_spec (ws := (ws_ yX7_areAlike cX7_areAlike 5 (some .boolean))) B.pre
  have hts : ∀ w ∈ lw_all, w.before _ s = true := fun w h => hts w (List.mem_cons_of_mem _ h)
  have hown : s.vm.findClass RX7 = some m.cls := findClass_of_methodNamed B.named
  have hlocks := B.notSynchronized
  have hK := hG.K Z
  have hS : va_S (fun _ => False) s.heap s.heap [] := va_S.rf
  have hl := lv_entry ([.ref (o 0), .int (nI k1), .int (nI k2)]) (n := 5) (Nat.le_of_ble_eq_true rfl)
  rw [show entryFrame m args 5 = entryFrame m ([.ref (o 0), .int (nI k1), .int (nI k2)] : List Value).toArray 5 from by rw [hav], lg_entry_eq]
  generalize (lg_sl ([.ref (o 0), .int (nI k1), .int (nI k2)]) ++ List.replicate (5 - (lg_sl ([.ref (o 0), .int (nI k1), .int (nI k2)])).length) Slot.unset).toArray = ls at hl ⊢
  have hl : lv_has ls 5 [(0, .ref (o 0)), (1, .int (nI k1)), (2, .int (nI k2))] := hl
  generalize hQe : MQ below _ _ s _ _ _ = Q
  change W p l e ({ frames := 2, cells := 0, slots := 0, locals := 120 } : Room) s m args below meth c s.heap [] 0 0 Q (F0 m 0 ls [])
  refine lv_iconst (v := nI 1) hx hb dX7_areAlike_0 (by decide) ?_
  refine lv_istore_n (lv' := [(3, .int (nI 1)), (0, .ref (o 0)), (1, .int (nI k1)), (2, .int (nI k2))]) hx hb dX7_areAlike_1 rfl hl (by decide) rfl (fun ls hl => ?_)
  refine lv_iconst (v := nI 0) hx hb dX7_areAlike_2 (by decide) ?_
  refine lv_istore (lv' := [(4, .int (nI 0)), (3, .int (nI 1)), (0, .ref (o 0)), (1, .int (nI k1)), (2, .int (nI k2))]) hx hb dX7_areAlike_3 hl (by decide) rfl (fun ls hl => ?_)
  have loop_1 : ∀ (n9_1 : Nat) (k : Nat) (ls : Array Slot), 33 - k < n9_1 → (k ≤ 33) → lv_has ls 5 [(0, .ref (o 0)), (1, .int (nI k1)), (2, .int (nI k2)), (3, .int (bI (likeB M N k))), (4, .int (nI k))] → W p l e ({ frames := 2, cells := 0, slots := 0, locals := 120 } : Room) s m args below meth c s.heap [] 0 0 Q (F0 m 5 ls []) := by
    intro n9_1
    induction n9_1 with
    | zero => intro k ls hm_1; exact absurd hm_1 (Nat.not_lt_zero _)
    | succ n9_1 ih_1 =>
      intro k ls hm_1 hk9 hl
      refine lv_iload hx hb dX7_areAlike_5 (lv_at hl 4 rfl) ?_
      refine lv_bipush (v := nI 33) hx hb dX7_areAlike_7 (by decide) ?_
      refine lv_icmp_ge (tgt := 56) hx hb dX7_areAlike_9 (by decide) (fun c_9 => ?_) (fun c_9 => ?_)
      · have c_9 : 33 ≤ k := (nI_leI (a := 33) (b := k) (by omega) (by omega)).mp c_9
        obtain rfl : k = 33 := by omega
        refine lv_iload_n hx hb dX7_areAlike_56 rfl (lv_at hl 3 rfl) ?_
        subst hQe
        exact W.zret (v := bI (likeB M N 33)) hx hb hr (bI_z _) (fun t ht hW => ⟨_, rfl, rfl, ht⟩) hS.2.2 dX7_areAlike_57
      · have c_9 : ¬ 33 ≤ k := fun h => c_9 ((nI_leI (a := 33) (b := k) (by omega) (by omega)).mpr h)
        refine lv_iload_n hx hb dX7_areAlike_12 rfl (lv_at hl 3 rfl) ?_
        refine lv_if_eq (tgt := 48) hx hb dX7_areAlike_13 (by decide) (fun c_13 => ?_) (fun c_13 => ?_)
        · refine lv_iconst (v := nI 0) hx hb dX7_areAlike_48 (by decide) ?_
          refine e_i (y := bI (likeB M N (k + 1))) ((by show _ = bI (likeB M N k && decide (M k = N k)); rw [bI_0 c_13, Bool.false_and]; rfl)) ?_
          refine lv_istore_n (lv' := [(3, .int (bI (likeB M N (k + 1)))), (0, .ref (o 0)), (1, .int (nI k1)), (2, .int (nI k2)), (4, .int (nI k))]) hx hb dX7_areAlike_49 rfl hl (by decide) rfl (fun ls hl => ?_)
          refine lv_iinc (v := nI (k + 1)) (lv' := [(4, .int (nI (k + 1))), (3, .int (bI (likeB M N (k + 1)))), (0, .ref (o 0)), (1, .int (nI k1)), (2, .int (nI k2))]) hx hb dX7_areAlike_50 hl (k := 4) rfl (by exact nI_add _ 1) (by decide) rfl (fun ls hl => ?_)
          refine lv_goto (tgt := 5) hx hb dX7_areAlike_53 (by decide) ?_
          exact ih_1 (k + 1) ls (by omega) (by omega) (lv_sub hl [2, 3, 4, 1, 0] rfl)
        · refine lv_aload_n hx hb dX7_areAlike_16 rfl (lv_at hl 0 rfl) ?_
          refine va_get (D := (dC, dI)) (ci := 2) (v := .ref (o 5)) (C := RX7) (T := TX7) (N := 27) hx hb hts in_X7 hown hK hP 0 rfl rfl 8 (by decide) (hts _ q2014) (fun _ h9 => h9) rfl dX7_areAlike_17 ?_
          refine lv_bipush (v := nI 33) hx hb dX7_areAlike_20 (by decide) ?_
          refine lv_iload_n hx hb dX7_areAlike_22 rfl (lv_at hl 1 rfl) ?_
          refine lv_imul hx hb dX7_areAlike_23 ?_
          refine e_i (y := nI (33 * k1)) (pk_mul _ _) ?_
          refine lv_iload hx hb dX7_areAlike_24 (lv_at hl 4 rfl) ?_
          refine lv_iadd hx hb dX7_areAlike_26 ?_
          refine e_i (y := nI (33 * k1 + k)) (nI_add _ _) ?_
          refine a_lald hx hb hK hP 1 1 rfl rfl (by omega) (by omega) dX7_areAlike_27 ?_
          refine e_l (y := M k) (hM k (by omega)) ?_
          refine lv_aload_n hx hb dX7_areAlike_28 rfl (lv_at hl 0 rfl) ?_
          refine va_get (D := (dC, dI)) (ci := 2) (v := .ref (o 5)) (C := RX7) (T := TX7) (N := 27) hx hb hts in_X7 hown hK hP 0 rfl rfl 8 (by decide) (hts _ q2014) (fun _ h9 => h9) rfl dX7_areAlike_29 ?_
          refine lv_bipush (v := nI 33) hx hb dX7_areAlike_32 (by decide) ?_
          refine lv_iload_n hx hb dX7_areAlike_34 rfl (lv_at hl 2 rfl) ?_
          refine lv_imul hx hb dX7_areAlike_35 ?_
          refine e_i (y := nI (33 * k2)) (pk_mul _ _) ?_
          refine lv_iload hx hb dX7_areAlike_36 (lv_at hl 4 rfl) ?_
          refine lv_iadd hx hb dX7_areAlike_38 ?_
          refine e_i (y := nI (33 * k2 + k)) (nI_add _ _) ?_
          refine a_lald hx hb hK hP 1 1 rfl rfl (by omega) (by omega) dX7_areAlike_39 ?_
          refine e_l (y := N k) (hN k (by omega)) ?_
          refine W.lcmp hx hb dX7_areAlike_40 ?_
          refine lv_if_ne (tgt := 48) hx hb dX7_areAlike_41 (by decide) (fun c_41 => ?_) (fun c_41 => ?_)
          · have c_41 : ¬ (M k) = (N k) := fun h => c_41 ((lg_cmp_eq _ _).mpr h)
            refine lv_iconst (v := nI 0) hx hb dX7_areAlike_48 (by decide) ?_
            refine e_i (y := bI (likeB M N (k + 1))) ((by show _ = bI (likeB M N k && decide (M k = N k)); rw [bI_1 c_13, Bool.true_and, decide_eq_false c_41]; rfl)) ?_
            refine lv_istore_n (lv' := [(3, .int (bI (likeB M N (k + 1)))), (0, .ref (o 0)), (1, .int (nI k1)), (2, .int (nI k2)), (4, .int (nI k))]) hx hb dX7_areAlike_49 rfl hl (by decide) rfl (fun ls hl => ?_)
            refine lv_iinc (v := nI (k + 1)) (lv' := [(4, .int (nI (k + 1))), (3, .int (bI (likeB M N (k + 1)))), (0, .ref (o 0)), (1, .int (nI k1)), (2, .int (nI k2))]) hx hb dX7_areAlike_50 hl (k := 4) rfl (by exact nI_add _ 1) (by decide) rfl (fun ls hl => ?_)
            refine lv_goto (tgt := 5) hx hb dX7_areAlike_53 (by decide) ?_
            exact ih_1 (k + 1) ls (by omega) (by omega) (lv_sub hl [2, 3, 4, 1, 0] rfl)
          · have c_41 : (M k) = (N k) := (lg_cmp_eq _ _).mp c_41
            refine lv_iconst (v := nI 1) hx hb dX7_areAlike_44 (by decide) ?_
            refine lv_goto (tgt := 49) hx hb dX7_areAlike_45 (by decide) ?_
            refine e_i (y := bI (likeB M N (k + 1))) ((by show _ = bI (likeB M N k && decide (M k = N k)); rw [bI_1 c_13, Bool.true_and, decide_eq_true c_41]; rfl)) ?_
            refine lv_istore_n (lv' := [(3, .int (bI (likeB M N (k + 1)))), (0, .ref (o 0)), (1, .int (nI k1)), (2, .int (nI k2)), (4, .int (nI k))]) hx hb dX7_areAlike_49 rfl hl (by decide) rfl (fun ls hl => ?_)
            refine lv_iinc (v := nI (k + 1)) (lv' := [(4, .int (nI (k + 1))), (3, .int (bI (likeB M N (k + 1)))), (0, .ref (o 0)), (1, .int (nI k1)), (2, .int (nI k2))]) hx hb dX7_areAlike_50 hl (k := 4) rfl (by exact nI_add _ 1) (by decide) rfl (fun ls hl => ?_)
            refine lv_goto (tgt := 5) hx hb dX7_areAlike_53 (by decide) ?_
            exact ih_1 (k + 1) ls (by omega) (by omega) (lv_sub hl [2, 3, 4, 1, 0] rfl)
  exact loop_1 _ 0 ls (Nat.lt_succ_self _) (by omega) (lv_sub hl [2, 3, 4, 1, 0] rfl)
set_option maxHeartbeats 4000000 in
theorem x7_sandwiches {l : Launch} {dC : Nat → ClassId} {dI : Nat → Nat → Nat} {dA : Nat → ClassId} {s0 : State} {b0 : Addr} (Z : Z0 l dC dI dA s0 b0) (A : Nat → Prop) (sz : Nat) (hA : ∀ q : Nat, sz ≤ q → A q) (o : Nat → Nat) (th : Int32) (p0 q0 r0 : Nat) (mu : Int64) (zz : Nat → Int32) (fA fM : Nat → Int64) (k1 k2 k3 : Nat) (V M : MV) (hn : p0 + q0 + r0 ≤ 5) (hk1 : outH k1) (hk2 : k2 < 26 ∨ 28 ≤ k2) (hk3 : k3 < 26 ∨ 28 ≤ k3) (h11 : k1 < 80) (h12 : k2 < 80) (h13 : k3 < 80) (h14 : k2 ≠ 31) (h15 : k3 ≠ 31) (hV : Hold fA k1 V) (hM : Hold fA k2 M) (hR : Hold fA 31 (revS p0 q0 r0 V)) (sV : MSm V) (sM : MSm M) : Met l yX7_sandwiches (ws_ yX7_sandwiches cX7_sandwiches 4 (some .boolean)) ({ frames := 5, cells := 0, slots := 0, locals := 300 } : Room) (gP [.ref (o 0), .int (nI k1), .int (nI k2), .int (nI k3)] s0 A (fun H => H.size = sz ∧ va_P (dC, dI) vwCl [(o 0, .inr (2, mFs o th p0 q0 r0 mu zz)), (o 5, .inl (dA 1, 2640, .inr (.inl fA))), (o 6, .inl (dA 1, 32, .inr (.inl fM)))] H ∧ va_D A [(o 0, .inr (2, mFs o th p0 q0 r0 mu zz)), (o 5, .inl (dA 1, 2640, .inr (.inl fA))), (o 6, .inl (dA 1, 32, .inr (.inl fM)))])) (va_Qi (S := (Nat → Int64) × (Nat → Int64) × Int64) (fun r u => (∃ P, sndS p0 q0 r0 V M = some P ∧ r = nI 1 ∧ Hold u.1 k3 P ∧ Kp fA u.1 (fun k => k ≠ 26 ∧ k ≠ 27 ∧ k ≠ k3)) ∨ (sndS p0 q0 r0 V M = none ∧ r = nI 0 ∧ Kp fA u.1 (fun k => k ≠ 26 ∧ k ≠ 27))) (B1 (dC, dI) A (fun u => mC dA o th p0 q0 r0 u.2.2 zz u.1 u.2.1) (fun _ _ => True)) A) 0 0 A := by
  refine Met.ofW (cc := cX7_sandwiches) (maxL := 4) (ret := (some .boolean)) (by decide) rfl ?_
  intro p e s m args below meth c s₁ B hml hv
  obtain ⟨hav, hG, hsz, hP, hD⟩ := hv
  have hx := B.exec
  have hb := B.bytes
  have hr := B.returns
  have hts := atoms_spec (ws := (ws_ yX7_sandwiches cX7_sandwiches 4 (some .boolean))) B.pre
  have hts : ∀ w ∈ lw_all, w.before _ s = true := fun w h => hts w (List.mem_cons_of_mem _ h)
  have hown : s.vm.findClass RX7 = some m.cls := findClass_of_methodNamed B.named
  have hlocks := B.notSynchronized
  have hK := hG.K Z
  subst hsz
  have hS : va_S A s.heap s.heap [] := va_S.rf
  have hl := lv_entry ([.ref (o 0), .int (nI k1), .int (nI k2), .int (nI k3)]) (n := 4) (Nat.le_of_ble_eq_true rfl)
  rw [show entryFrame m args 4 = entryFrame m ([.ref (o 0), .int (nI k1), .int (nI k2), .int (nI k3)] : List Value).toArray 4 from by rw [hav], lg_entry_eq]
  generalize (lg_sl ([.ref (o 0), .int (nI k1), .int (nI k2), .int (nI k3)]) ++ List.replicate (4 - (lg_sl ([.ref (o 0), .int (nI k1), .int (nI k2), .int (nI k3)])).length) Slot.unset).toArray = ls at hl ⊢
  have hl : lv_has ls 4 [(0, .ref (o 0)), (1, .int (nI k1)), (2, .int (nI k2)), (3, .int (nI k3))] := hl
  generalize hQe : MQ below _ _ s _ _ _ = Q
  change W p l e ({ frames := 5, cells := 0, slots := 0, locals := 300 } : Room) s m args below meth c s.heap [] 0 0 Q (F0 m 0 ls [])
  have sRv : MSm (revS p0 q0 r0 V) := trnS_sm hn sV
  have hg9 := grN_lt V 32 (by decide)
  have hg7 : grS V &&& 42 < 64 := Nat.lt_of_le_of_lt Nat.and_le_left hg9
  refine lv_aload_n hx hb dX7_sandwiches_0 rfl (lv_at hl 0 rfl) ?_
  refine lv_iload_n hx hb dX7_sandwiches_1 rfl (lv_at hl 1 rfl) ?_
  refine s_i (va_runV (As := [.int (nI k1)]) (rest := []) ⟨hx, hb, hml, hown, hts⟩ (x7_gradesOf Z o th p0 q0 r0 mu zz fA k1 V (by omega) hV) (cwV 1 hts (lw_V q2273 q2275 qs59 q107 q2276) rfl rfl rfl (by decide +kernel) ⟨Nat.le_of_ble_eq_true rfl, Nat.le_of_ble_eq_true rfl⟩) (gP_V (va_recv hK hP (ci := 2) (q0 := 0) rfl rfl) hG hS (fun q _ h => h.elim) (hP.sub (ws' := [(o 0, .inr (2, mFs o th p0 q0 r0 mu zz)), (o 5, .inl (dA 1, 2640, .inr (.inl fA)))]) [0, 1] rfl)) rfl rfl hl.1 rfl (lv_room (Nat.le_of_ble_eq_true rfl)) dX7_sandwiches_2 ⟨by first | decide | omega, by first | decide | omega⟩) ?_
  refine lv_bipush (v := nI 42) hx hb dX7_sandwiches_5 (by decide) ?_
  refine lv_iand hx hb dX7_sandwiches_7 ?_
  refine e_i (y := nI ((grS V) &&& 42)) (n_and _ _) ?_
  refine lv_if_eq (tgt := 22) hx hb dX7_sandwiches_8 (by decide) (fun c_8 => ?_) (fun c_8 => ?_)
  · have c_8 : ((grS V) &&& 42) = 0 := (nI_eq (a := ((grS V) &&& 42)) (b := 0) (by omega) (by omega)).mp c_8
    refine lv_aload_n hx hb dX7_sandwiches_22 rfl (lv_at hl 0 rfl) ?_
    refine lv_iload_n hx hb dX7_sandwiches_23 rfl (lv_at hl 2 rfl) ?_
    refine lv_bipush (v := nI 26) hx hb dX7_sandwiches_24 (by decide) ?_
    have hF9 := va_free (wc := [(o 0, .inr (2, mFs o th p0 q0 r0 mu zz)), (o 5, .inl (dA 1, 2640, .inr (.inl fA)))]) hD hS (fun q h => hA q h) [0, 1] rfl
    refine c_v (wr := [(o 6, .inl (dA 1, 32, .inr (.inl fM)))]) (va_runV (As := [.int (nI k2), .int (nI 26)]) (rest := []) ⟨hx, hb, hml, hown, hts⟩ (x7_copies Z (va_A [(o 0, .inr (2, mFs o th p0 q0 r0 mu zz)), (o 5, .inl (dA 1, 2640, .inr (.inl fA)))] s.heap.size) s.heap.size (fun q h => Or.inr h) o th p0 q0 r0 mu zz fA fM k2 26 (by omega) (by omega)) (cwV 2 hts (lw_V q2185 q2187 qs49 q107 q2188) rfl rfl rfl (by decide +kernel) ⟨Nat.le_of_ble_eq_true rfl, Nat.le_of_ble_eq_true rfl⟩) (gP_V (va_recv hK hP (ci := 2) (q0 := 0) rfl rfl) hG hS (fun q _ h => hF9 q h) ⟨rfl, (hP.sub (ws' := [(o 0, .inr (2, mFs o th p0 q0 r0 mu zz)), (o 5, .inl (dA 1, 2640, .inr (.inl fA)))]) [0, 1] rfl), (hD.sub (ws' := [(o 0, .inr (2, mFs o th p0 q0 r0 mu zz)), (o 5, .inl (dA 1, 2640, .inr (.inl fA)))]) [0, 1] (by decide) rfl).self⟩) rfl rfl hl.1 rfl (lv_room (Nat.le_of_ble_eq_true rfl)) dX7_sandwiches_26 ⟨by first | decide | omega, by first | decide | omega⟩) hP hD hS hA [0, 1] [2] rfl rfl (by decide) (by decide) (fun u9 H locs hq hX hz hk hP hD hS => ?_)
    have hP : va_P (dC, dI) vwCl [(o 6, .inl (dA 1, 32, .inr (.inl fM))), (o 0, .inr (2, mFs o th p0 q0 r0 mu zz)), (o 5, .inl (dA 1, 2640, .inr (.inl (cpS fA k2 26))))] H := hP
    have hD : va_D A [(o 6, .inl (dA 1, 32, .inr (.inl fM))), (o 0, .inr (2, mFs o th p0 q0 r0 mu zz)), (o 5, .inl (dA 1, 2640, .inr (.inl (cpS fA k2 26))))] := hD
    have hc_2 := cpS_hold (t := 26) hM
    have hs_3 := cpS_same (fA := fA) (k := k2) (t := 26)
    generalize cpS fA k2 26 = fA_1 at hP hD hc_2 hs_3
    have hh_4 := hs_3.hold (j := k1) (by omega) hV
    have hh_5 := hs_3.hold (j := k2) (by omega) hM
    have hh_6 := hs_3.hold (j := 31) (by omega) hR
    refine lv_aload_n hx hb dX7_sandwiches_29 rfl (lv_at hl 0 rfl) ?_
    refine lv_iconst (v := nI 2) hx hb dX7_sandwiches_30 (by decide) ?_
    refine lv_iload_n hx hb dX7_sandwiches_31 rfl (lv_at hl 1 rfl) ?_
    refine lv_bipush (v := nI 26) hx hb dX7_sandwiches_32 (by decide) ?_
    refine lv_bipush (v := nI 27) hx hb dX7_sandwiches_34 (by decide) ?_
    have hF9 := va_free (wc := [(o 0, .inr (2, mFs o th p0 q0 r0 mu zz)), (o 5, .inl (dA 1, 2640, .inr (.inl fA_1))), (o 6, .inl (dA 1, 32, .inr (.inl fM)))]) hD hS (fun q h => hA q h) [1, 2, 0] rfl
    refine c_i (wr := []) (va_runV (As := [.int (nI 2), .int (nI k1), .int (nI 26), .int (nI 27)]) (rest := []) ⟨hx, hb, hml, hown, hts⟩ (x7_multiplies Z (va_A [(o 0, .inr (2, mFs o th p0 q0 r0 mu zz)), (o 5, .inl (dA 1, 2640, .inr (.inl fA_1))), (o 6, .inl (dA 1, 32, .inr (.inl fM)))] H.size) H.size (fun q h => Or.inr h) o th p0 q0 r0 mu zz fA_1 fM 2 k1 26 27 V M hn (by omega) (by omega) (by omega) (by omega) (by omega) hh_4 hc_2 sV sM) (cwV 4 hts (lw_V q2168 q2170 qs46 q107 q2171) rfl rfl rfl (by decide +kernel) ⟨Nat.le_of_ble_eq_true rfl, Nat.le_of_ble_eq_true rfl⟩) (gP_V (va_recv hK hP (ci := 2) (q0 := 1) rfl rfl) hG hS (fun q _ h => hF9 q h) ⟨rfl, (hP.sub (ws' := [(o 0, .inr (2, mFs o th p0 q0 r0 mu zz)), (o 5, .inl (dA 1, 2640, .inr (.inl fA_1))), (o 6, .inl (dA 1, 32, .inr (.inl fM)))]) [1, 2, 0] rfl), (hD.sub (ws' := [(o 0, .inr (2, mFs o th p0 q0 r0 mu zz)), (o 5, .inl (dA 1, 2640, .inr (.inl fA_1))), (o 6, .inl (dA 1, 32, .inr (.inl fM)))]) [1, 2, 0] (by decide) rfl).self⟩) rfl rfl hl.1 rfl (lv_room (Nat.le_of_ble_eq_true rfl)) dX7_sandwiches_36 ⟨by first | decide | omega, by first | decide | omega⟩) hP hD hS hA [1, 2, 0] [] rfl rfl (by decide) (by decide) (fun r9 u9 H locs hq hX hz hk hP hD hS => ?_)
    obtain ⟨fA_7, fM_8, mu_9⟩ := u9
    obtain ⟨r_10, rfl⟩ : ∃ z, z = r9 := ⟨_, rfl⟩
    have hq_11 := hq
    try dsimp only at hq_11
    have hP : va_P (dC, dI) vwCl [(o 0, .inr (2, mFs o th p0 q0 r0 mu_9 zz)), (o 5, .inl (dA 1, 2640, .inr (.inl fA_7))), (o 6, .inl (dA 1, 32, .inr (.inl fM_8)))] H := hP
    have hD : va_D A [(o 0, .inr (2, mFs o th p0 q0 r0 mu_9 zz)), (o 5, .inl (dA 1, 2640, .inr (.inl fA_7))), (o 6, .inl (dA 1, 32, .inr (.inl fM_8)))] := hD
    rcases hq_11.cases with ⟨P_12, e_12, rfl, hH_12, hS_12⟩ | ⟨e_12, rfl, hE_12⟩
    · have sm_13 : MSm P_12 := mulS_sm sV sM e_12
      have hh_14 := hS_12.hold (j := k1) (by omega) hh_4
      have hh_15 := hS_12.hold (j := k2) (by omega) hh_5
      have hh_16 := hS_12.hold (j := 31) (by omega) hh_6
      have hh_17 := hS_12.hold (j := 26) (by omega) hc_2
      refine lv_if_eq (tgt := 59) hx hb dX7_sandwiches_39 (by decide) (fun c_39 => ?_) (fun c_39 => ?_)
      · exact absurd c_39 (by decide)
      refine lv_aload_n hx hb dX7_sandwiches_42 rfl (lv_at hl 0 rfl) ?_
      refine lv_iconst (v := nI 2) hx hb dX7_sandwiches_43 (by decide) ?_
      refine lv_bipush (v := nI 27) hx hb dX7_sandwiches_44 (by decide) ?_
      refine lv_bipush (v := nI 31) hx hb dX7_sandwiches_46 (by decide) ?_
      refine lv_iload_n hx hb dX7_sandwiches_48 rfl (lv_at hl 3 rfl) ?_
      have hF9 := va_free (wc := [(o 0, .inr (2, mFs o th p0 q0 r0 mu_9 zz)), (o 5, .inl (dA 1, 2640, .inr (.inl fA_7))), (o 6, .inl (dA 1, 32, .inr (.inl fM_8)))]) hD hS (fun q h => hA q h) [0, 1, 2] rfl
      refine c_i (wr := []) (va_runV (As := [.int (nI 2), .int (nI 27), .int (nI 31), .int (nI k3)]) (rest := []) ⟨hx, hb, hml, hown, hts⟩ (x7_multiplies Z (va_A [(o 0, .inr (2, mFs o th p0 q0 r0 mu_9 zz)), (o 5, .inl (dA 1, 2640, .inr (.inl fA_7))), (o 6, .inl (dA 1, 32, .inr (.inl fM_8)))] H.size) H.size (fun q h => Or.inr h) o th p0 q0 r0 mu_9 zz fA_7 fM_8 2 27 31 k3 P_12 (revS p0 q0 r0 V) hn (by omega) (by omega) (by omega) (by omega) (by omega) hH_12 hh_16 sm_13 sRv) (cwV 4 hts (lw_V q2168 q2170 qs46 q107 q2171) rfl rfl rfl (by decide +kernel) ⟨Nat.le_of_ble_eq_true rfl, Nat.le_of_ble_eq_true rfl⟩) (gP_V (va_recv hK hP (ci := 2) (q0 := 0) rfl rfl) hG hS (fun q _ h => hF9 q h) ⟨rfl, (hP.sub (ws' := [(o 0, .inr (2, mFs o th p0 q0 r0 mu_9 zz)), (o 5, .inl (dA 1, 2640, .inr (.inl fA_7))), (o 6, .inl (dA 1, 32, .inr (.inl fM_8)))]) [0, 1, 2] rfl), (hD.sub (ws' := [(o 0, .inr (2, mFs o th p0 q0 r0 mu_9 zz)), (o 5, .inl (dA 1, 2640, .inr (.inl fA_7))), (o 6, .inl (dA 1, 32, .inr (.inl fM_8)))]) [0, 1, 2] (by decide) rfl).self⟩) rfl rfl hl.1 rfl (lv_room (Nat.le_of_ble_eq_true rfl)) dX7_sandwiches_49 ⟨by first | decide | omega, by first | decide | omega⟩) hP hD hS hA [0, 1, 2] [] rfl rfl (by decide) (by decide) (fun r9 u9 H locs hq hX hz hk hP hD hS => ?_)
      obtain ⟨fA_18, fM_19, mu_20⟩ := u9
      obtain ⟨r_21, rfl⟩ : ∃ z, z = r9 := ⟨_, rfl⟩
      have hq_22 := hq
      try dsimp only at hq_22
      have hP : va_P (dC, dI) vwCl [(o 0, .inr (2, mFs o th p0 q0 r0 mu_20 zz)), (o 5, .inl (dA 1, 2640, .inr (.inl fA_18))), (o 6, .inl (dA 1, 32, .inr (.inl fM_19)))] H := hP
      have hD : va_D A [(o 0, .inr (2, mFs o th p0 q0 r0 mu_20 zz)), (o 5, .inl (dA 1, 2640, .inr (.inl fA_18))), (o 6, .inl (dA 1, 32, .inr (.inl fM_19)))] := hD
      rcases hq_22.cases with ⟨P_23, e_23, rfl, hH_23, hS_23⟩ | ⟨e_23, rfl, hE_23⟩
      · have sm_24 : MSm P_23 := mulS_sm sm_13 sRv e_23
        have hh_25 := hS_23.hold (j := 31) (by omega) hh_16
        have hh_26 := hS_23.hold (j := 26) (by omega) hh_17
        have hh_27 := hS_23.hold (j := 27) (by omega) hH_12
        refine lv_if_eq (tgt := 59) hx hb dX7_sandwiches_52 (by decide) (fun c_52 => ?_) (fun c_52 => ?_)
        · exact absurd c_52 (by decide)
        refine lv_iconst (v := nI 1) hx hb dX7_sandwiches_55 (by decide) ?_
        refine lv_goto (tgt := 60) hx hb dX7_sandwiches_56 (by decide) ?_
        subst hQe
        exact W.zret (v := nI 1) hx hb hr rfl (fun t ht hW => ⟨⟨_, (fA_18, fM_19, mu_20), rfl, Or.inl ⟨P_23, (by unfold sndS; rw [if_pos c_8]; simp only [e_12, e_23]), rfl, hH_23, (fun k9 hk9 i9 hi9 => by (try dsimp only [outH] at hk9); show fA_18 (33 * k9 + i9) = fA (33 * k9 + i9); rw [hS_23 _ (by omega), hS_12 _ (by omega), hs_3 _ (by omega)])⟩, B1_at ht (hP.sub [0, 1, 2] rfl) (hD.sub [0, 1, 2] (by decide) rfl) trivial⟩, hS.F ht⟩) hS.2.2 dX7_sandwiches_60
      · have hh_28 : Hold fA_18 k1 V := by rw [hE_23]; exact hh_14
        have hh_29 : Hold fA_18 k2 M := by rw [hE_23]; exact hh_15
        have hh_30 : Hold fA_18 31 (revS p0 q0 r0 V) := by rw [hE_23]; exact hh_16
        have hh_31 : Hold fA_18 26 M := by rw [hE_23]; exact hh_17
        have hh_32 : Hold fA_18 27 P_12 := by rw [hE_23]; exact hH_12
        refine lv_if_eq (tgt := 59) hx hb dX7_sandwiches_52 (by decide) (fun c_52 => ?_) (fun c_52 => ?_)
        rotate_left
        · exact absurd (by decide) c_52
        refine lv_iconst (v := nI 0) hx hb dX7_sandwiches_59 (by decide) ?_
        subst hQe
        exact W.zret (v := nI 0) hx hb hr rfl (fun t ht hW => ⟨⟨_, (fA_18, fM_19, mu_20), rfl, Or.inr ⟨(by unfold sndS; rw [if_pos c_8]; simp only [e_12, e_23]), rfl, (fun k9 hk9 i9 hi9 => by (try dsimp only [outH] at hk9); show fA_18 (33 * k9 + i9) = fA (33 * k9 + i9); rw [hE_23, hS_12 _ (by omega), hs_3 _ (by omega)])⟩, B1_at ht (hP.sub [0, 1, 2] rfl) (hD.sub [0, 1, 2] (by decide) rfl) trivial⟩, hS.F ht⟩) hS.2.2 dX7_sandwiches_60
    · have hh_33 : Hold fA_7 k1 V := by rw [hE_12]; exact hh_4
      have hh_34 : Hold fA_7 k2 M := by rw [hE_12]; exact hh_5
      have hh_35 : Hold fA_7 31 (revS p0 q0 r0 V) := by rw [hE_12]; exact hh_6
      have hh_36 : Hold fA_7 26 M := by rw [hE_12]; exact hc_2
      refine lv_if_eq (tgt := 59) hx hb dX7_sandwiches_39 (by decide) (fun c_39 => ?_) (fun c_39 => ?_)
      rotate_left
      · exact absurd (by decide) c_39
      refine lv_iconst (v := nI 0) hx hb dX7_sandwiches_59 (by decide) ?_
      subst hQe
      exact W.zret (v := nI 0) hx hb hr rfl (fun t ht hW => ⟨⟨_, (fA_7, fM_8, mu_9), rfl, Or.inr ⟨(by unfold sndS; rw [if_pos c_8]; simp only [e_12]), rfl, (fun k9 hk9 i9 hi9 => by (try dsimp only [outH] at hk9); show fA_7 (33 * k9 + i9) = fA (33 * k9 + i9); rw [hE_12, hs_3 _ (by omega)])⟩, B1_at ht (hP.sub [0, 1, 2] rfl) (hD.sub [0, 1, 2] (by decide) rfl) trivial⟩, hS.F ht⟩) hS.2.2 dX7_sandwiches_60
  · have c_8 : ¬ ((grS V) &&& 42) = 0 := fun h => c_8 ((nI_eq (a := ((grS V) &&& 42)) (b := 0) (by omega) (by omega)).mpr h)
    refine lv_aload_n hx hb dX7_sandwiches_11 rfl (lv_at hl 0 rfl) ?_
    refine lv_iconst (v := nI 1) hx hb dX7_sandwiches_12 (by decide) ?_
    refine lv_iload_n hx hb dX7_sandwiches_13 rfl (lv_at hl 2 rfl) ?_
    refine lv_bipush (v := nI 26) hx hb dX7_sandwiches_14 (by decide) ?_
    have hF9 := va_free (wc := [(o 0, .inr (2, mFs o th p0 q0 r0 mu zz)), (o 5, .inl (dA 1, 2640, .inr (.inl fA))), (o 6, .inl (dA 1, 32, .inr (.inl fM)))]) hD hS (fun q h => hA q h) [0, 1, 2] rfl
    refine c_v (wr := []) (va_runV (As := [.int (nI 1), .int (nI k2), .int (nI 26)]) (rest := []) ⟨hx, hb, hml, hown, hts⟩ (x7_turns Z (va_A [(o 0, .inr (2, mFs o th p0 q0 r0 mu zz)), (o 5, .inl (dA 1, 2640, .inr (.inl fA))), (o 6, .inl (dA 1, 32, .inr (.inl fM)))] s.heap.size) s.heap.size (fun q h => Or.inr h) o th p0 q0 r0 mu zz fA fM 1 k2 26 M hn (by omega) (by omega) (by omega) hM sM) (cwV 3 hts (lw_V q2143 q2145 qs42 q107 q2146) rfl rfl rfl (by decide +kernel) ⟨Nat.le_of_ble_eq_true rfl, Nat.le_of_ble_eq_true rfl⟩) (gP_V (va_recv hK hP (ci := 2) (q0 := 0) rfl rfl) hG hS (fun q _ h => hF9 q h) ⟨rfl, (hP.sub (ws' := [(o 0, .inr (2, mFs o th p0 q0 r0 mu zz)), (o 5, .inl (dA 1, 2640, .inr (.inl fA))), (o 6, .inl (dA 1, 32, .inr (.inl fM)))]) [0, 1, 2] rfl), (hD.sub (ws' := [(o 0, .inr (2, mFs o th p0 q0 r0 mu zz)), (o 5, .inl (dA 1, 2640, .inr (.inl fA))), (o 6, .inl (dA 1, 32, .inr (.inl fM)))]) [0, 1, 2] (by decide) rfl).self⟩) rfl rfl hl.1 rfl (lv_room (Nat.le_of_ble_eq_true rfl)) dX7_sandwiches_16 ⟨by first | decide | omega, by first | decide | omega⟩) hP hD hS hA [0, 1, 2] [] rfl rfl (by decide) (by decide) (fun u9 H locs hq hX hz hk hP hD hS => ?_)
    obtain ⟨fA_37, fM_38, mu_39⟩ := u9
    have hq_40 := hq
    try dsimp only at hq_40
    have hP : va_P (dC, dI) vwCl [(o 0, .inr (2, mFs o th p0 q0 r0 mu_39 zz)), (o 5, .inl (dA 1, 2640, .inr (.inl fA_37))), (o 6, .inl (dA 1, 32, .inr (.inl fM_38)))] H := hP
    have hD : va_D A [(o 0, .inr (2, mFs o th p0 q0 r0 mu_39 zz)), (o 5, .inl (dA 1, 2640, .inr (.inl fA_37))), (o 6, .inl (dA 1, 32, .inr (.inl fM_38)))] := hD
    obtain ⟨hH_k_41, hS_k_41⟩ := hq_40
    have sm_42 := trnS_sm (op := 1) (p := p0) (q := q0) (r := r0) (by omega) sM
    have hh_43 := hS_k_41.hold (j := k1) (by omega) hV
    have hh_44 := hS_k_41.hold (j := k2) (by omega) hM
    have hh_45 := hS_k_41.hold (j := 31) (by omega) hR
    refine lv_goto (tgt := 29) hx hb dX7_sandwiches_19 (by decide) ?_
    refine lv_aload_n hx hb dX7_sandwiches_29 rfl (lv_at hl 0 rfl) ?_
    refine lv_iconst (v := nI 2) hx hb dX7_sandwiches_30 (by decide) ?_
    refine lv_iload_n hx hb dX7_sandwiches_31 rfl (lv_at hl 1 rfl) ?_
    refine lv_bipush (v := nI 26) hx hb dX7_sandwiches_32 (by decide) ?_
    refine lv_bipush (v := nI 27) hx hb dX7_sandwiches_34 (by decide) ?_
    have hF9 := va_free (wc := [(o 0, .inr (2, mFs o th p0 q0 r0 mu_39 zz)), (o 5, .inl (dA 1, 2640, .inr (.inl fA_37))), (o 6, .inl (dA 1, 32, .inr (.inl fM_38)))]) hD hS (fun q h => hA q h) [0, 1, 2] rfl
    refine c_i (wr := []) (va_runV (As := [.int (nI 2), .int (nI k1), .int (nI 26), .int (nI 27)]) (rest := []) ⟨hx, hb, hml, hown, hts⟩ (x7_multiplies Z (va_A [(o 0, .inr (2, mFs o th p0 q0 r0 mu_39 zz)), (o 5, .inl (dA 1, 2640, .inr (.inl fA_37))), (o 6, .inl (dA 1, 32, .inr (.inl fM_38)))] H.size) H.size (fun q h => Or.inr h) o th p0 q0 r0 mu_39 zz fA_37 fM_38 2 k1 26 27 V (trnS 1 p0 q0 r0 M) hn (by omega) (by omega) (by omega) (by omega) (by omega) hh_43 hH_k_41 sV sm_42) (cwV 4 hts (lw_V q2168 q2170 qs46 q107 q2171) rfl rfl rfl (by decide +kernel) ⟨Nat.le_of_ble_eq_true rfl, Nat.le_of_ble_eq_true rfl⟩) (gP_V (va_recv hK hP (ci := 2) (q0 := 0) rfl rfl) hG hS (fun q _ h => hF9 q h) ⟨rfl, (hP.sub (ws' := [(o 0, .inr (2, mFs o th p0 q0 r0 mu_39 zz)), (o 5, .inl (dA 1, 2640, .inr (.inl fA_37))), (o 6, .inl (dA 1, 32, .inr (.inl fM_38)))]) [0, 1, 2] rfl), (hD.sub (ws' := [(o 0, .inr (2, mFs o th p0 q0 r0 mu_39 zz)), (o 5, .inl (dA 1, 2640, .inr (.inl fA_37))), (o 6, .inl (dA 1, 32, .inr (.inl fM_38)))]) [0, 1, 2] (by decide) rfl).self⟩) rfl rfl hl.1 rfl (lv_room (Nat.le_of_ble_eq_true rfl)) dX7_sandwiches_36 ⟨by first | decide | omega, by first | decide | omega⟩) hP hD hS hA [0, 1, 2] [] rfl rfl (by decide) (by decide) (fun r9 u9 H locs hq hX hz hk hP hD hS => ?_)
    obtain ⟨fA_46, fM_47, mu_48⟩ := u9
    obtain ⟨r_49, rfl⟩ : ∃ z, z = r9 := ⟨_, rfl⟩
    have hq_50 := hq
    try dsimp only at hq_50
    have hP : va_P (dC, dI) vwCl [(o 0, .inr (2, mFs o th p0 q0 r0 mu_48 zz)), (o 5, .inl (dA 1, 2640, .inr (.inl fA_46))), (o 6, .inl (dA 1, 32, .inr (.inl fM_47)))] H := hP
    have hD : va_D A [(o 0, .inr (2, mFs o th p0 q0 r0 mu_48 zz)), (o 5, .inl (dA 1, 2640, .inr (.inl fA_46))), (o 6, .inl (dA 1, 32, .inr (.inl fM_47)))] := hD
    rcases hq_50.cases with ⟨P_51, e_51, rfl, hH_51, hS_51⟩ | ⟨e_51, rfl, hE_51⟩
    · have sm_52 : MSm P_51 := mulS_sm sV sm_42 e_51
      have hh_53 := hS_51.hold (j := k1) (by omega) hh_43
      have hh_54 := hS_51.hold (j := k2) (by omega) hh_44
      have hh_55 := hS_51.hold (j := 31) (by omega) hh_45
      have hh_56 := hS_51.hold (j := 26) (by omega) hH_k_41
      refine lv_if_eq (tgt := 59) hx hb dX7_sandwiches_39 (by decide) (fun c_39 => ?_) (fun c_39 => ?_)
      · exact absurd c_39 (by decide)
      refine lv_aload_n hx hb dX7_sandwiches_42 rfl (lv_at hl 0 rfl) ?_
      refine lv_iconst (v := nI 2) hx hb dX7_sandwiches_43 (by decide) ?_
      refine lv_bipush (v := nI 27) hx hb dX7_sandwiches_44 (by decide) ?_
      refine lv_bipush (v := nI 31) hx hb dX7_sandwiches_46 (by decide) ?_
      refine lv_iload_n hx hb dX7_sandwiches_48 rfl (lv_at hl 3 rfl) ?_
      have hF9 := va_free (wc := [(o 0, .inr (2, mFs o th p0 q0 r0 mu_48 zz)), (o 5, .inl (dA 1, 2640, .inr (.inl fA_46))), (o 6, .inl (dA 1, 32, .inr (.inl fM_47)))]) hD hS (fun q h => hA q h) [0, 1, 2] rfl
      refine c_i (wr := []) (va_runV (As := [.int (nI 2), .int (nI 27), .int (nI 31), .int (nI k3)]) (rest := []) ⟨hx, hb, hml, hown, hts⟩ (x7_multiplies Z (va_A [(o 0, .inr (2, mFs o th p0 q0 r0 mu_48 zz)), (o 5, .inl (dA 1, 2640, .inr (.inl fA_46))), (o 6, .inl (dA 1, 32, .inr (.inl fM_47)))] H.size) H.size (fun q h => Or.inr h) o th p0 q0 r0 mu_48 zz fA_46 fM_47 2 27 31 k3 P_51 (revS p0 q0 r0 V) hn (by omega) (by omega) (by omega) (by omega) (by omega) hH_51 hh_55 sm_52 sRv) (cwV 4 hts (lw_V q2168 q2170 qs46 q107 q2171) rfl rfl rfl (by decide +kernel) ⟨Nat.le_of_ble_eq_true rfl, Nat.le_of_ble_eq_true rfl⟩) (gP_V (va_recv hK hP (ci := 2) (q0 := 0) rfl rfl) hG hS (fun q _ h => hF9 q h) ⟨rfl, (hP.sub (ws' := [(o 0, .inr (2, mFs o th p0 q0 r0 mu_48 zz)), (o 5, .inl (dA 1, 2640, .inr (.inl fA_46))), (o 6, .inl (dA 1, 32, .inr (.inl fM_47)))]) [0, 1, 2] rfl), (hD.sub (ws' := [(o 0, .inr (2, mFs o th p0 q0 r0 mu_48 zz)), (o 5, .inl (dA 1, 2640, .inr (.inl fA_46))), (o 6, .inl (dA 1, 32, .inr (.inl fM_47)))]) [0, 1, 2] (by decide) rfl).self⟩) rfl rfl hl.1 rfl (lv_room (Nat.le_of_ble_eq_true rfl)) dX7_sandwiches_49 ⟨by first | decide | omega, by first | decide | omega⟩) hP hD hS hA [0, 1, 2] [] rfl rfl (by decide) (by decide) (fun r9 u9 H locs hq hX hz hk hP hD hS => ?_)
      obtain ⟨fA_57, fM_58, mu_59⟩ := u9
      obtain ⟨r_60, rfl⟩ : ∃ z, z = r9 := ⟨_, rfl⟩
      have hq_61 := hq
      try dsimp only at hq_61
      have hP : va_P (dC, dI) vwCl [(o 0, .inr (2, mFs o th p0 q0 r0 mu_59 zz)), (o 5, .inl (dA 1, 2640, .inr (.inl fA_57))), (o 6, .inl (dA 1, 32, .inr (.inl fM_58)))] H := hP
      have hD : va_D A [(o 0, .inr (2, mFs o th p0 q0 r0 mu_59 zz)), (o 5, .inl (dA 1, 2640, .inr (.inl fA_57))), (o 6, .inl (dA 1, 32, .inr (.inl fM_58)))] := hD
      rcases hq_61.cases with ⟨P_62, e_62, rfl, hH_62, hS_62⟩ | ⟨e_62, rfl, hE_62⟩
      · have sm_63 : MSm P_62 := mulS_sm sm_52 sRv e_62
        have hh_64 := hS_62.hold (j := 31) (by omega) hh_55
        have hh_65 := hS_62.hold (j := 26) (by omega) hh_56
        have hh_66 := hS_62.hold (j := 27) (by omega) hH_51
        refine lv_if_eq (tgt := 59) hx hb dX7_sandwiches_52 (by decide) (fun c_52 => ?_) (fun c_52 => ?_)
        · exact absurd c_52 (by decide)
        refine lv_iconst (v := nI 1) hx hb dX7_sandwiches_55 (by decide) ?_
        refine lv_goto (tgt := 60) hx hb dX7_sandwiches_56 (by decide) ?_
        subst hQe
        exact W.zret (v := nI 1) hx hb hr rfl (fun t ht hW => ⟨⟨_, (fA_57, fM_58, mu_59), rfl, Or.inl ⟨P_62, (by unfold sndS; rw [if_neg c_8]; simp only [e_51, e_62]), rfl, hH_62, (fun k9 hk9 i9 hi9 => by (try dsimp only [outH] at hk9); show fA_57 (33 * k9 + i9) = fA (33 * k9 + i9); rw [hS_62 _ (by omega), hS_51 _ (by omega), hS_k_41 _ (by omega)])⟩, B1_at ht (hP.sub [0, 1, 2] rfl) (hD.sub [0, 1, 2] (by decide) rfl) trivial⟩, hS.F ht⟩) hS.2.2 dX7_sandwiches_60
      · have hh_67 : Hold fA_57 k1 V := by rw [hE_62]; exact hh_53
        have hh_68 : Hold fA_57 k2 M := by rw [hE_62]; exact hh_54
        have hh_69 : Hold fA_57 31 (revS p0 q0 r0 V) := by rw [hE_62]; exact hh_55
        have hh_70 : Hold fA_57 26 (trnS 1 p0 q0 r0 M) := by rw [hE_62]; exact hh_56
        have hh_71 : Hold fA_57 27 P_51 := by rw [hE_62]; exact hH_51
        refine lv_if_eq (tgt := 59) hx hb dX7_sandwiches_52 (by decide) (fun c_52 => ?_) (fun c_52 => ?_)
        rotate_left
        · exact absurd (by decide) c_52
        refine lv_iconst (v := nI 0) hx hb dX7_sandwiches_59 (by decide) ?_
        subst hQe
        exact W.zret (v := nI 0) hx hb hr rfl (fun t ht hW => ⟨⟨_, (fA_57, fM_58, mu_59), rfl, Or.inr ⟨(by unfold sndS; rw [if_neg c_8]; simp only [e_51, e_62]), rfl, (fun k9 hk9 i9 hi9 => by (try dsimp only [outH] at hk9); show fA_57 (33 * k9 + i9) = fA (33 * k9 + i9); rw [hE_62, hS_51 _ (by omega), hS_k_41 _ (by omega)])⟩, B1_at ht (hP.sub [0, 1, 2] rfl) (hD.sub [0, 1, 2] (by decide) rfl) trivial⟩, hS.F ht⟩) hS.2.2 dX7_sandwiches_60
    · have hh_72 : Hold fA_46 k1 V := by rw [hE_51]; exact hh_43
      have hh_73 : Hold fA_46 k2 M := by rw [hE_51]; exact hh_44
      have hh_74 : Hold fA_46 31 (revS p0 q0 r0 V) := by rw [hE_51]; exact hh_45
      have hh_75 : Hold fA_46 26 (trnS 1 p0 q0 r0 M) := by rw [hE_51]; exact hH_k_41
      refine lv_if_eq (tgt := 59) hx hb dX7_sandwiches_39 (by decide) (fun c_39 => ?_) (fun c_39 => ?_)
      rotate_left
      · exact absurd (by decide) c_39
      refine lv_iconst (v := nI 0) hx hb dX7_sandwiches_59 (by decide) ?_
      subst hQe
      exact W.zret (v := nI 0) hx hb hr rfl (fun t ht hW => ⟨⟨_, (fA_46, fM_47, mu_48), rfl, Or.inr ⟨(by unfold sndS; rw [if_neg c_8]; simp only [e_51]), rfl, (fun k9 hk9 i9 hi9 => by (try dsimp only [outH] at hk9); show fA_46 (33 * k9 + i9) = fA (33 * k9 + i9); rw [hE_51, hS_k_41 _ (by omega)])⟩, B1_at ht (hP.sub [0, 1, 2] rfl) (hD.sub [0, 1, 2] (by decide) rfl) trivial⟩, hS.F ht⟩) hS.2.2 dX7_sandwiches_60
