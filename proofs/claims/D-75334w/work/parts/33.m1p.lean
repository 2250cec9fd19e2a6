theorem two_of {α : Type} {S : List α} (h : 2 ≤ S.length) : ∃ N M R, S = N :: M :: R := by
  match S, h with
  | [], h => exact absurd h (by simp)
  | [x], h => exact absurd h (by simp)
  | N :: M :: R, _ => exact ⟨N, M, R, rfl⟩
theorem lvl_ops {a : Nat} (h : 1 ≤ lvl a) (h2 : a ≠ 110) : a = 43 ∨ a = 45 ∨ a = 42 ∨ a = 94 ∨ a = 46 := by
  unfold lvl at h
  split at h
  · omega
  · split at h
    · omega
    · split at h
      · omega
      · exact absurd h (by decide)
set_option maxHeartbeats 4000000 in
theorem x7_clN {l : Launch} {dC : Nat → ClassId} {dI : Nat → Nat → Nat} {dA : Nat → ClassId} {s0 : State} {b0 : Addr} (Z : Z0 l dC dI dA s0 b0) (A : Nat → Prop) (sz : Nat) (hA : ∀ q : Nat, sz ≤ q → A q) (o : Nat → Nat) (th : Int32) (p0 q0 r0 : Nat) (mu : Int64) (ln at_ : Nat) (er ea : Int32) (vs wn op_ : Nat) (bw bb bp : Bool) (uf : Int32) (wr_ : Nat) (fA fM : Nat → Int64) (fW fP : Nat → Int32) (w9 m9 : Nat) (M : MV) (hn : p0 + q0 + r0 ≤ 5) (hw8 : w9 < 99) (hm9 : m9 < 46) (hW9 : fW w9 = nI 110) (hM : Hold fA (32 + m9) M) (sM : MSm M) : Met l yX7_carriesOutLatest (ws_ yX7_carriesOutLatest cX7_carriesOutLatest 4 none) ({ frames := 6, cells := 0, slots := 0, locals := 360 } : Room) (gP [.ref (o 0)] s0 A (fun H => H.size = sz ∧ va_P (dC, dI) vwCl [(o 0, .inr (2, mFs o th p0 q0 r0 mu (zP ln at_ er ea (m9 + 1) (w9 + 1) op_ bw bb bp uf wr_))), (o 5, .inl (dA 1, 2640, .inr (.inl fA))), (o 6, .inl (dA 1, 32, .inr (.inl fM))), (o 8, .inl (dA 0, 100, .inl fW)), (o 9, .inl (dA 0, 100, .inl fP))] H ∧ va_D A [(o 0, .inr (2, mFs o th p0 q0 r0 mu (zP ln at_ er ea (m9 + 1) (w9 + 1) op_ bw bb bp uf wr_))), (o 5, .inl (dA 1, 2640, .inr (.inl fA))), (o 6, .inl (dA 1, 32, .inr (.inl fM))), (o 8, .inl (dA 0, 100, .inl fW)), (o 9, .inl (dA 0, 100, .inl fP))])) (va_Qv (S := (Nat → Int64) × (Nat → Int64) × Int64) (fun u => Hold u.1 (32 + m9) (trnS 8 p0 q0 r0 M) ∧ Same fA u.1 (32 + m9)) (B1 (dC, dI) A (fun u => [(o 0, .inr (2, mFs o th p0 q0 r0 u.2.2 (zP ln at_ er ea (m9 + 1) w9 op_ bw bb bp uf wr_))), (o 5, .inl (dA 1, 2640, .inr (.inl u.1))), (o 6, .inl (dA 1, 32, .inr (.inl u.2.1))), (o 8, .inl (dA 0, 100, .inl fW)), (o 9, .inl (dA 0, 100, .inl fP))]) (fun _ _ => True)) A) 0 0 A := by
  refine Met.ofW (cc := cX7_carriesOutLatest) (maxL := 4) (ret := none) (by decide) rfl ?_
  intro p e s m args below meth c s₁ B hml hv
  obtain ⟨hav, hG, hsz, hP, hD⟩ := hv
  have hx := B.exec
  have hb := B.bytes
  have hr := B.returns
  have hts := atoms_spec (ws := (ws_ yX7_carriesOutLatest cX7_carriesOutLatest 4 none)) B.pre
  have hts : ∀ w ∈ lw_all, w.before _ s = true := fun w h => hts w (List.mem_cons_of_mem _ h)
  have hown : s.vm.findClass RX7 = some m.cls := findClass_of_methodNamed B.named
  have hlocks := B.notSynchronized
  have hK := hG.K Z
  subst hsz
  have hS : va_S A s.heap s.heap [] := va_S.rf
  have hl := lv_entry ([.ref (o 0)]) (n := 4) (Nat.le_of_ble_eq_true rfl)
  rw [show entryFrame m args 4 = entryFrame m ([.ref (o 0)] : List Value).toArray 4 from by rw [hav], lg_entry_eq]
  generalize (lg_sl ([.ref (o 0)]) ++ List.replicate (4 - (lg_sl ([.ref (o 0)])).length) Slot.unset).toArray = ls at hl ⊢
  have hl : lv_has ls 4 [(0, .ref (o 0))] := hl
  generalize hQe : MQ below _ _ s _ _ _ = Q
  change W p l e ({ frames := 6, cells := 0, slots := 0, locals := 360 } : Room) s m args below meth c s.heap [] 0 0 Q (F0 m 0 ls [])
  refine lv_aload_n hx hb dX7_carriesOutLatest_0 rfl (lv_at hl 0 rfl) ?_
  refine lv_dup hx hb dX7_carriesOutLatest_1 rfl ?_
  refine va_get (D := (dC, dI)) (ci := 2) (v := .int (nI (w9 + 1))) (C := RX7) (T := TX7) (N := 27) hx hb hts in_X7 hown hK hP 0 rfl rfl 19 (by decide) (hts _ q2025) (fun _ h9 => h9) rfl dX7_carriesOutLatest_2 ?_
  refine lv_iconst (v := nI 1) hx hb dX7_carriesOutLatest_5 (by decide) ?_
  refine lv_isub hx hb dX7_carriesOutLatest_6 ?_
  refine e_i (y := nI w9) ((pk_sub (by omega)).trans (n_eq (by omega))) ?_
  refine va_put (D := (dC, dI)) (ci := 2) (v := .int (nI w9)) (ty := .int) (C := RX7) (T := TX7) (N := 27) hx hb hts in_X7 tyX7 tyX7_ok nmX7 hown hK hP hD hS 0 rfl rfl 19 (by decide) (hts _ q2025) (fun _ h9 => h9) rfl (by decide +kernel) rfl rfl (Nat.le_of_ble_eq_true rfl) dX7_carriesOutLatest_7 (fun H locs hP hD hS => ?_)
  have hP : va_P (dC, dI) vwCl [(o 0, .inr (2, mFs o th p0 q0 r0 mu (zP ln at_ er ea (m9 + 1) w9 op_ bw bb bp uf wr_))), (o 5, .inl (dA 1, 2640, .inr (.inl fA))), (o 6, .inl (dA 1, 32, .inr (.inl fM))), (o 8, .inl (dA 0, 100, .inl fW)), (o 9, .inl (dA 0, 100, .inl fP))] H := hP
  have hD : va_D A [(o 0, .inr (2, mFs o th p0 q0 r0 mu (zP ln at_ er ea (m9 + 1) w9 op_ bw bb bp uf wr_))), (o 5, .inl (dA 1, 2640, .inr (.inl fA))), (o 6, .inl (dA 1, 32, .inr (.inl fM))), (o 8, .inl (dA 0, 100, .inl fW)), (o 9, .inl (dA 0, 100, .inl fP))] := hD
  refine lv_bipush (v := nI 32) hx hb dX7_carriesOutLatest_10 (by decide) ?_
  refine lv_aload_n hx hb dX7_carriesOutLatest_12 rfl (lv_at hl 0 rfl) ?_
  refine va_get (D := (dC, dI)) (ci := 2) (v := .int (nI (m9 + 1))) (C := RX7) (T := TX7) (N := 27) hx hb hts in_X7 hown hK hP 0 rfl rfl 16 (by decide) (hts _ q2022) (fun _ h9 => h9) rfl dX7_carriesOutLatest_13 ?_
  refine lv_iadd hx hb dX7_carriesOutLatest_16 ?_
  refine e_i (y := nI (32 + (m9 + 1))) (nI_add _ _) ?_
  refine lv_iconst (v := nI 1) hx hb dX7_carriesOutLatest_17 (by decide) ?_
  refine lv_isub hx hb dX7_carriesOutLatest_18 ?_
  refine e_i (y := nI (32 + m9)) ((pk_sub (by omega)).trans (n_eq (by omega))) ?_
  refine lv_istore_n (lv' := [(1, .int (nI (32 + m9))), (0, .ref (o 0))]) hx hb dX7_carriesOutLatest_19 rfl hl (by decide) rfl (fun ls hl => ?_)
  refine lv_aload_n hx hb dX7_carriesOutLatest_20 rfl (lv_at hl 1 rfl) ?_
  refine va_get (D := (dC, dI)) (ci := 2) (v := .ref (o 8)) (C := RX7) (T := TX7) (N := 27) hx hb hts in_X7 hown hK hP 0 rfl rfl 17 (by decide) (hts _ q2023) (fun _ h9 => h9) rfl dX7_carriesOutLatest_21 ?_
  refine lv_aload_n hx hb dX7_carriesOutLatest_24 rfl (lv_at hl 1 rfl) ?_
  refine va_get (D := (dC, dI)) (ci := 2) (v := .int (nI w9)) (C := RX7) (T := TX7) (N := 27) hx hb hts in_X7 hown hK hP 0 rfl rfl 19 (by decide) (hts _ q2025) (fun _ h9 => h9) rfl dX7_carriesOutLatest_25 ?_
  refine a_iald hx hb hK hP 3 0 rfl rfl (by omega) (by omega) dX7_carriesOutLatest_28 ?_
  refine e_i (y := nI 110) (hW9) ?_
  refine lv_istore_n (lv' := [(2, .int (nI 110)), (1, .int (nI (32 + m9))), (0, .ref (o 0))]) hx hb dX7_carriesOutLatest_29 rfl hl (by decide) rfl (fun ls hl => ?_)
  refine lv_iload_n hx hb dX7_carriesOutLatest_30 rfl (lv_at hl 0 rfl) ?_
  refine lv_bipush (v := nI 110) hx hb dX7_carriesOutLatest_31 (by decide) ?_
  refine lv_icmp_ne (tgt := 45) hx hb dX7_carriesOutLatest_33 (by decide) (fun c_33 => ?_) (fun c_33 => ?_)
  · exact absurd (by decide) c_33
  refine lv_aload_n hx hb dX7_carriesOutLatest_36 rfl (lv_at hl 2 rfl) ?_
  refine lv_bipush (v := nI 8) hx hb dX7_carriesOutLatest_37 (by decide) ?_
  refine lv_iload_n hx hb dX7_carriesOutLatest_39 rfl (lv_at hl 1 rfl) ?_
  refine lv_iload_n hx hb dX7_carriesOutLatest_40 rfl (lv_at hl 1 rfl) ?_
  have hF9 := va_free (wc := [(o 0, .inr (2, mFs o th p0 q0 r0 mu (zP ln at_ er ea (m9 + 1) w9 op_ bw bb bp uf wr_))), (o 5, .inl (dA 1, 2640, .inr (.inl fA))), (o 6, .inl (dA 1, 32, .inr (.inl fM)))]) hD hS (fun q h => hA q h) [0, 1, 2] rfl
  refine c_v (wr := [(o 8, .inl (dA 0, 100, .inl fW)), (o 9, .inl (dA 0, 100, .inl fP))]) (va_runV (As := [.int (nI 8), .int (nI (32 + m9)), .int (nI (32 + m9))]) (rest := []) ⟨hx, hb, hml, hown, hts⟩ (x7_turns Z (va_A [(o 0, .inr (2, mFs o th p0 q0 r0 mu (zP ln at_ er ea (m9 + 1) w9 op_ bw bb bp uf wr_))), (o 5, .inl (dA 1, 2640, .inr (.inl fA))), (o 6, .inl (dA 1, 32, .inr (.inl fM)))] H.size) H.size (fun q h => Or.inr h) o th p0 q0 r0 mu (zP ln at_ er ea (m9 + 1) w9 op_ bw bb bp uf wr_) fA fM 8 (32 + m9) (32 + m9) M hn (by omega) (by omega) (by omega) hM sM) (cwV 3 hts (lw_V q2143 q2145 qs42 q107 q2146) rfl rfl rfl (by decide +kernel) ⟨Nat.le_of_ble_eq_true rfl, Nat.le_of_ble_eq_true rfl⟩) (gP_V (va_recv hK hP (ci := 2) (q0 := 0) rfl rfl) hG hS (fun q _ h => hF9 q h) ⟨rfl, (hP.sub (ws' := [(o 0, .inr (2, mFs o th p0 q0 r0 mu (zP ln at_ er ea (m9 + 1) w9 op_ bw bb bp uf wr_))), (o 5, .inl (dA 1, 2640, .inr (.inl fA))), (o 6, .inl (dA 1, 32, .inr (.inl fM)))]) [0, 1, 2] rfl), (hD.sub (ws' := [(o 0, .inr (2, mFs o th p0 q0 r0 mu (zP ln at_ er ea (m9 + 1) w9 op_ bw bb bp uf wr_))), (o 5, .inl (dA 1, 2640, .inr (.inl fA))), (o 6, .inl (dA 1, 32, .inr (.inl fM)))]) [0, 1, 2] (by decide) rfl).self⟩) rfl rfl hl.1 rfl (lv_room (Nat.le_of_ble_eq_true rfl)) dX7_carriesOutLatest_41 ⟨by first | decide | omega, by first | decide | omega⟩) hP hD hS hA [0, 1, 2] [3, 4] rfl rfl (by decide) (by decide) (fun u9 H locs hq hX hz hk hP hD hS => ?_)
  obtain ⟨fA_1, fM_2, mu_3⟩ := u9
  have hq_4 := hq
  try dsimp only at hq_4
  have hP : va_P (dC, dI) vwCl [(o 8, .inl (dA 0, 100, .inl fW)), (o 9, .inl (dA 0, 100, .inl fP)), (o 0, .inr (2, mFs o th p0 q0 r0 mu_3 (zP ln at_ er ea (m9 + 1) w9 op_ bw bb bp uf wr_))), (o 5, .inl (dA 1, 2640, .inr (.inl fA_1))), (o 6, .inl (dA 1, 32, .inr (.inl fM_2)))] H := hP
  have hD : va_D A [(o 8, .inl (dA 0, 100, .inl fW)), (o 9, .inl (dA 0, 100, .inl fP)), (o 0, .inr (2, mFs o th p0 q0 r0 mu_3 (zP ln at_ er ea (m9 + 1) w9 op_ bw bb bp uf wr_))), (o 5, .inl (dA 1, 2640, .inr (.inl fA_1))), (o 6, .inl (dA 1, 32, .inr (.inl fM_2)))] := hD
  obtain ⟨hH_k_5, hS_k_5⟩ := hq_4
  have sm_6 := trnS_sm (op := 8) (p := p0) (q := q0) (r := r0) (by omega) sM
  subst hQe
  exact W.vret hx hb hr (fun tz ht hW => ⟨⟨(fA_1, fM_2, mu_3), rfl, ⟨hH_k_5, hS_k_5⟩, B1_at ht (hP.sub [2, 3, 4, 0, 1] rfl) (hD.sub [2, 3, 4, 0, 1] (by decide) rfl) trivial⟩, hS.F ht⟩) hS.2.2 dX7_carriesOutLatest_44
set_option maxHeartbeats 4000000 in
theorem x7_clB {l : Launch} {dC : Nat → ClassId} {dI : Nat → Nat → Nat} {dA : Nat → ClassId} {s0 : State} {b0 : Addr} (Z : Z0 l dC dI dA s0 b0) (A : Nat → Prop) (sz : Nat) (hA : ∀ q : Nat, sz ≤ q → A q) (o : Nat → Nat) (th : Int32) (p0 q0 r0 : Nat) (mu : Int64) (ln at_ : Nat) (er ea : Int32) (vs wn op_ : Nat) (bw bb bp : Bool) (wr_ : Nat) (fA fM : Nat → Int64) (fW fP : Nat → Int32) (w9 m9 a9 kk : Nat) (unf : Option Nat) (M N : MV) (hn : p0 + q0 + r0 ≤ 5) (hw8 : w9 < 99) (hm9 : m9 < 46) (ha9 : a9 = 43 ∨ a9 = 45 ∨ a9 = 42 ∨ a9 = 94 ∨ a9 = 46) (hW9 : fW w9 = nI a9) (hP9 : fP w9 = nI kk) (hu9 : ∀ k, unf = some k → k < 1000) (hM : Hold fA (32 + m9) M) (sM : MSm M) (hN : Hold fA (32 + m9 + 1) N) (sN : MSm N) : Met l yX7_carriesOutLatest (ws_ yX7_carriesOutLatest cX7_carriesOutLatest 4 none) ({ frames := 7, cells := 0, slots := 0, locals := 420 } : Room) (gP [.ref (o 0)] s0 A (fun H => H.size = sz ∧ va_P (dC, dI) vwCl [(o 0, .inr (2, mFs o th p0 q0 r0 mu (zP ln at_ er ea (m9 + 2) (w9 + 1) op_ bw bb bp (ufI unf) wr_))), (o 5, .inl (dA 1, 2640, .inr (.inl fA))), (o 6, .inl (dA 1, 32, .inr (.inl fM))), (o 8, .inl (dA 0, 100, .inl fW)), (o 9, .inl (dA 0, 100, .inl fP))] H ∧ va_D A [(o 0, .inr (2, mFs o th p0 q0 r0 mu (zP ln at_ er ea (m9 + 2) (w9 + 1) op_ bw bb bp (ufI unf) wr_))), (o 5, .inl (dA 1, 2640, .inr (.inl fA))), (o 6, .inl (dA 1, 32, .inr (.inl fM))), (o 8, .inl (dA 0, 100, .inl fW)), (o 9, .inl (dA 0, 100, .inl fP))])) (va_Qv (S := (Nat → Int64) × (Nat → Int64) × Int64 × Int32) (fun u => Hold u.1 (32 + m9) (carB p0 q0 r0 a9 kk unf M N).1 ∧ u.2.2.2 = ufI (carB p0 q0 r0 a9 kk unf M N).2 ∧ MSm (carB p0 q0 r0 a9 kk unf M N).1 ∧ Kp fA u.1 (fun k => outH k ∧ k ≠ 32 + m9)) (B1 (dC, dI) A (fun u => [(o 0, .inr (2, mFs o th p0 q0 r0 u.2.2.1 (zP ln at_ er ea (m9 + 1) w9 op_ bw bb bp u.2.2.2 wr_))), (o 5, .inl (dA 1, 2640, .inr (.inl u.1))), (o 6, .inl (dA 1, 32, .inr (.inl u.2.1))), (o 8, .inl (dA 0, 100, .inl fW)), (o 9, .inl (dA 0, 100, .inl fP))]) (fun _ _ => True)) A) 0 0 A := by
  refine Met.ofW (cc := cX7_carriesOutLatest) (maxL := 4) (ret := none) (by decide) rfl ?_
  intro p e s m args below meth c s₁ B hml hv
  obtain ⟨hav, hG, hsz, hP, hD⟩ := hv
  have hx := B.exec
  have hb := B.bytes
  have hr := B.returns
  have hts := atoms_spec (ws := (ws_ yX7_carriesOutLatest cX7_carriesOutLatest 4 none)) B.pre
  have hts : ∀ w ∈ lw_all, w.before _ s = true := fun w h => hts w (List.mem_cons_of_mem _ h)
  have hown : s.vm.findClass RX7 = some m.cls := findClass_of_methodNamed B.named
  have hlocks := B.notSynchronized
  have hK := hG.K Z
  subst hsz
  have hS : va_S A s.heap s.heap [] := va_S.rf
  have hl := lv_entry ([.ref (o 0)]) (n := 4) (Nat.le_of_ble_eq_true rfl)
  rw [show entryFrame m args 4 = entryFrame m ([.ref (o 0)] : List Value).toArray 4 from by rw [hav], lg_entry_eq]
  generalize (lg_sl ([.ref (o 0)]) ++ List.replicate (4 - (lg_sl ([.ref (o 0)])).length) Slot.unset).toArray = ls at hl ⊢
  have hl : lv_has ls 4 [(0, .ref (o 0))] := hl
  generalize hQe : MQ below _ _ s _ _ _ = Q
  change W p l e ({ frames := 7, cells := 0, slots := 0, locals := 420 } : Room) s m args below meth c s.heap [] 0 0 Q (F0 m 0 ls [])
  refine lv_aload_n hx hb dX7_carriesOutLatest_0 rfl (lv_at hl 0 rfl) ?_
  refine lv_dup hx hb dX7_carriesOutLatest_1 rfl ?_
  refine va_get (D := (dC, dI)) (ci := 2) (v := .int (nI (w9 + 1))) (C := RX7) (T := TX7) (N := 27) hx hb hts in_X7 hown hK hP 0 rfl rfl 19 (by decide) (hts _ q2025) (fun _ h9 => h9) rfl dX7_carriesOutLatest_2 ?_
  refine lv_iconst (v := nI 1) hx hb dX7_carriesOutLatest_5 (by decide) ?_
  refine lv_isub hx hb dX7_carriesOutLatest_6 ?_
  refine e_i (y := nI w9) ((pk_sub (by omega)).trans (n_eq (by omega))) ?_
  refine va_put (D := (dC, dI)) (ci := 2) (v := .int (nI w9)) (ty := .int) (C := RX7) (T := TX7) (N := 27) hx hb hts in_X7 tyX7 tyX7_ok nmX7 hown hK hP hD hS 0 rfl rfl 19 (by decide) (hts _ q2025) (fun _ h9 => h9) rfl (by decide +kernel) rfl rfl (Nat.le_of_ble_eq_true rfl) dX7_carriesOutLatest_7 (fun H locs hP hD hS => ?_)
  have hP : va_P (dC, dI) vwCl [(o 0, .inr (2, mFs o th p0 q0 r0 mu (zP ln at_ er ea (m9 + 2) w9 op_ bw bb bp (ufI unf) wr_))), (o 5, .inl (dA 1, 2640, .inr (.inl fA))), (o 6, .inl (dA 1, 32, .inr (.inl fM))), (o 8, .inl (dA 0, 100, .inl fW)), (o 9, .inl (dA 0, 100, .inl fP))] H := hP
  have hD : va_D A [(o 0, .inr (2, mFs o th p0 q0 r0 mu (zP ln at_ er ea (m9 + 2) w9 op_ bw bb bp (ufI unf) wr_))), (o 5, .inl (dA 1, 2640, .inr (.inl fA))), (o 6, .inl (dA 1, 32, .inr (.inl fM))), (o 8, .inl (dA 0, 100, .inl fW)), (o 9, .inl (dA 0, 100, .inl fP))] := hD
  refine lv_bipush (v := nI 32) hx hb dX7_carriesOutLatest_10 (by decide) ?_
  refine lv_aload_n hx hb dX7_carriesOutLatest_12 rfl (lv_at hl 0 rfl) ?_
  refine va_get (D := (dC, dI)) (ci := 2) (v := .int (nI (m9 + 2))) (C := RX7) (T := TX7) (N := 27) hx hb hts in_X7 hown hK hP 0 rfl rfl 16 (by decide) (hts _ q2022) (fun _ h9 => h9) rfl dX7_carriesOutLatest_13 ?_
  refine lv_iadd hx hb dX7_carriesOutLatest_16 ?_
  refine e_i (y := nI (32 + (m9 + 2))) (nI_add _ _) ?_
  refine lv_iconst (v := nI 1) hx hb dX7_carriesOutLatest_17 (by decide) ?_
  refine lv_isub hx hb dX7_carriesOutLatest_18 ?_
  refine e_i (y := nI (32 + m9 + 1)) ((pk_sub (by omega)).trans (n_eq (by omega))) ?_
  refine lv_istore_n (lv' := [(1, .int (nI (32 + m9 + 1))), (0, .ref (o 0))]) hx hb dX7_carriesOutLatest_19 rfl hl (by decide) rfl (fun ls hl => ?_)
  refine lv_aload_n hx hb dX7_carriesOutLatest_20 rfl (lv_at hl 1 rfl) ?_
  refine va_get (D := (dC, dI)) (ci := 2) (v := .ref (o 8)) (C := RX7) (T := TX7) (N := 27) hx hb hts in_X7 hown hK hP 0 rfl rfl 17 (by decide) (hts _ q2023) (fun _ h9 => h9) rfl dX7_carriesOutLatest_21 ?_
  refine lv_aload_n hx hb dX7_carriesOutLatest_24 rfl (lv_at hl 1 rfl) ?_
  refine va_get (D := (dC, dI)) (ci := 2) (v := .int (nI w9)) (C := RX7) (T := TX7) (N := 27) hx hb hts in_X7 hown hK hP 0 rfl rfl 19 (by decide) (hts _ q2025) (fun _ h9 => h9) rfl dX7_carriesOutLatest_25 ?_
  refine a_iald hx hb hK hP 3 0 rfl rfl (by omega) (by omega) dX7_carriesOutLatest_28 ?_
  rcases ha9 with rfl | rfl | rfl | rfl | rfl
  · refine e_i (y := nI 43) (hW9) ?_
    refine lv_istore_n (lv' := [(2, .int (nI 43)), (1, .int (nI (32 + m9 + 1))), (0, .ref (o 0))]) hx hb dX7_carriesOutLatest_29 rfl hl (by decide) rfl (fun ls hl => ?_)
    refine lv_iload_n hx hb dX7_carriesOutLatest_30 rfl (lv_at hl 0 rfl) ?_
    refine lv_bipush (v := nI 110) hx hb dX7_carriesOutLatest_31 (by decide) ?_
    refine lv_icmp_ne (tgt := 45) hx hb dX7_carriesOutLatest_33 (by decide) (fun c_33 => ?_) (fun c_33 => ?_)
    rotate_left
    · exact absurd c_33 (by decide)
    refine lv_iload_n hx hb dX7_carriesOutLatest_45 rfl (lv_at hl 0 rfl) ?_
    refine lv_bipush (v := nI 43) hx hb dX7_carriesOutLatest_46 (by decide) ?_
    refine lv_icmp_ne (tgt := 55) hx hb dX7_carriesOutLatest_48 (by decide) (fun c_48 => ?_) (fun c_48 => ?_)
    · exact absurd (by decide) c_48
    refine lv_iconst (v := nI 0) hx hb dX7_carriesOutLatest_51 (by decide) ?_
    refine lv_goto (tgt := 86) hx hb dX7_carriesOutLatest_52 (by decide) ?_
    refine lv_istore_n (lv' := [(3, .int (nI 0)), (2, .int (nI 43)), (1, .int (nI (32 + m9 + 1))), (0, .ref (o 0))]) hx hb dX7_carriesOutLatest_86 rfl hl (by decide) rfl (fun ls hl => ?_)
    refine lv_aload_n hx hb dX7_carriesOutLatest_87 rfl (lv_at hl 3 rfl) ?_
    refine lv_dup hx hb dX7_carriesOutLatest_88 rfl ?_
    refine va_get (D := (dC, dI)) (ci := 2) (v := .int (nI (m9 + 2))) (C := RX7) (T := TX7) (N := 27) hx hb hts in_X7 hown hK hP 0 rfl rfl 16 (by decide) (hts _ q2022) (fun _ h9 => h9) rfl dX7_carriesOutLatest_89 ?_
    refine lv_iconst (v := nI 1) hx hb dX7_carriesOutLatest_92 (by decide) ?_
    refine lv_isub hx hb dX7_carriesOutLatest_93 ?_
    refine e_i (y := nI (m9 + 1)) ((pk_sub (by omega)).trans (n_eq (by omega))) ?_
    refine va_put (D := (dC, dI)) (ci := 2) (v := .int (nI (m9 + 1))) (ty := .int) (C := RX7) (T := TX7) (N := 27) hx hb hts in_X7 tyX7 tyX7_ok nmX7 hown hK hP hD hS 0 rfl rfl 16 (by decide) (hts _ q2022) (fun _ h9 => h9) rfl (by decide +kernel) rfl rfl (Nat.le_of_ble_eq_true rfl) dX7_carriesOutLatest_94 (fun H locs hP hD hS => ?_)
    have hP : va_P (dC, dI) vwCl [(o 0, .inr (2, mFs o th p0 q0 r0 mu (zP ln at_ er ea (m9 + 1) w9 op_ bw bb bp (ufI unf) wr_))), (o 5, .inl (dA 1, 2640, .inr (.inl fA))), (o 6, .inl (dA 1, 32, .inr (.inl fM))), (o 8, .inl (dA 0, 100, .inl fW)), (o 9, .inl (dA 0, 100, .inl fP))] H := hP
    have hD : va_D A [(o 0, .inr (2, mFs o th p0 q0 r0 mu (zP ln at_ er ea (m9 + 1) w9 op_ bw bb bp (ufI unf) wr_))), (o 5, .inl (dA 1, 2640, .inr (.inl fA))), (o 6, .inl (dA 1, 32, .inr (.inl fM))), (o 8, .inl (dA 0, 100, .inl fW)), (o 9, .inl (dA 0, 100, .inl fP))] := hD
    refine lv_aload_n hx hb dX7_carriesOutLatest_97 rfl (lv_at hl 3 rfl) ?_
    refine va_get (D := (dC, dI)) (ci := 2) (v := .int (ufI unf)) (C := RX7) (T := TX7) (N := 27) hx hb hts in_X7 hown hK hP 0 rfl rfl 24 (by decide) (hts _ q2030) (fun _ h9 => h9) rfl dX7_carriesOutLatest_98 ?_
    refine lv_iconst (v := (-1)) hx hb dX7_carriesOutLatest_101 (by decide) ?_
    refine lv_icmp_ne (tgt := 133) hx hb dX7_carriesOutLatest_102 (by decide) (fun c_102 => ?_) (fun c_102 => ?_)
    · obtain ⟨ku, rfl⟩ : ∃ k, unf = some k := by
        cases unf with
        | none => exact absurd rfl c_102
        | some k => exact ⟨k, rfl⟩
      subst hQe
      exact W.vret hx hb hr (fun tz ht hW => ⟨⟨(fA, fM, mu, ufI (some ku)), rfl, ⟨hM, rfl, sM, fun k9 hk9 i9 hi9 => rfl⟩, B1_at ht (hP.sub [0, 1, 2, 3, 4] rfl) (hD.sub [0, 1, 2, 3, 4] (by decide) rfl) trivial⟩, hS.F ht⟩) hS.2.2 dX7_carriesOutLatest_133
    · obtain rfl := ufI_n c_102 hu9
      refine lv_aload_n hx hb dX7_carriesOutLatest_105 rfl (lv_at hl 3 rfl) ?_
      refine lv_iload_n hx hb dX7_carriesOutLatest_106 rfl (lv_at hl 0 rfl) ?_
      refine lv_iload_n hx hb dX7_carriesOutLatest_107 rfl (lv_at hl 2 rfl) ?_
      refine lv_iconst (v := nI 1) hx hb dX7_carriesOutLatest_108 (by decide) ?_
      refine lv_isub hx hb dX7_carriesOutLatest_109 ?_
      refine e_i (y := nI (32 + m9)) ((pk_sub (by omega)).trans (n_eq (by omega))) ?_
      refine lv_iload_n hx hb dX7_carriesOutLatest_110 rfl (lv_at hl 2 rfl) ?_
      refine lv_iload_n hx hb dX7_carriesOutLatest_111 rfl (lv_at hl 2 rfl) ?_
      refine lv_iconst (v := nI 1) hx hb dX7_carriesOutLatest_112 (by decide) ?_
      refine lv_isub hx hb dX7_carriesOutLatest_113 ?_
      refine e_i (y := nI (32 + m9)) ((pk_sub (by omega)).trans (n_eq (by omega))) ?_
      have hF9 := va_free (wc := [(o 0, .inr (2, mFs o th p0 q0 r0 mu (zP ln at_ er ea (m9 + 1) w9 op_ bw bb bp (ufI none) wr_))), (o 5, .inl (dA 1, 2640, .inr (.inl fA))), (o 6, .inl (dA 1, 32, .inr (.inl fM)))]) hD hS (fun q h => hA q h) [0, 1, 2] rfl
      refine c_i (wr := [(o 8, .inl (dA 0, 100, .inl fW)), (o 9, .inl (dA 0, 100, .inl fP))]) (va_runV (As := [.int (nI 0), .int (nI (32 + m9)), .int (nI (32 + m9 + 1)), .int (nI (32 + m9))]) (rest := []) ⟨hx, hb, hml, hown, hts⟩ (x7_carriesOut Z (va_A [(o 0, .inr (2, mFs o th p0 q0 r0 mu (zP ln at_ er ea (m9 + 1) w9 op_ bw bb bp (ufI none) wr_))), (o 5, .inl (dA 1, 2640, .inr (.inl fA))), (o 6, .inl (dA 1, 32, .inr (.inl fM)))] H.size) H.size (fun q h => Or.inr h) o th p0 q0 r0 mu (zP ln at_ er ea (m9 + 1) w9 op_ bw bb bp (ufI none) wr_) fA fM 0 (32 + m9) (32 + m9 + 1) (32 + m9) M N (by omega) (by omega) (by omega) (by omega) (by omega) (by omega) (by omega) (by omega) hM hN sM sN) (cwV 4 hts (lw_V q2107 q2109 qs35 q107 q2110) rfl rfl rfl (by decide +kernel) ⟨Nat.le_of_ble_eq_true rfl, Nat.le_of_ble_eq_true rfl⟩) (gP_V (va_recv hK hP (ci := 2) (q0 := 0) rfl rfl) hG hS (fun q _ h => hF9 q h) ⟨rfl, (hP.sub (ws' := [(o 0, .inr (2, mFs o th p0 q0 r0 mu (zP ln at_ er ea (m9 + 1) w9 op_ bw bb bp (ufI none) wr_))), (o 5, .inl (dA 1, 2640, .inr (.inl fA))), (o 6, .inl (dA 1, 32, .inr (.inl fM)))]) [0, 1, 2] rfl), (hD.sub (ws' := [(o 0, .inr (2, mFs o th p0 q0 r0 mu (zP ln at_ er ea (m9 + 1) w9 op_ bw bb bp (ufI none) wr_))), (o 5, .inl (dA 1, 2640, .inr (.inl fA))), (o 6, .inl (dA 1, 32, .inr (.inl fM)))]) [0, 1, 2] (by decide) rfl).self⟩) rfl rfl hl.1 rfl (lv_room (Nat.le_of_ble_eq_true rfl)) dX7_carriesOutLatest_114 ⟨by first | decide | omega, by first | decide | omega⟩) hP hD hS hA [0, 1, 2] [3, 4] rfl rfl (by decide) (by decide) (fun r9 u9 H locs hq hX hz hk hP hD hS => ?_)
      obtain ⟨fA_1, fM_2, mu_3⟩ := u9
      obtain ⟨r_4, rfl⟩ : ∃ z, z = r9 := ⟨_, rfl⟩
      have hq_5 := hq
      try dsimp only at hq_5
      have hP : va_P (dC, dI) vwCl [(o 8, .inl (dA 0, 100, .inl fW)), (o 9, .inl (dA 0, 100, .inl fP)), (o 0, .inr (2, mFs o th p0 q0 r0 mu_3 (zP ln at_ er ea (m9 + 1) w9 op_ bw bb bp (ufI none) wr_))), (o 5, .inl (dA 1, 2640, .inr (.inl fA_1))), (o 6, .inl (dA 1, 32, .inr (.inl fM_2)))] H := hP
      have hD : va_D A [(o 8, .inl (dA 0, 100, .inl fW)), (o 9, .inl (dA 0, 100, .inl fP)), (o 0, .inr (2, mFs o th p0 q0 r0 mu_3 (zP ln at_ er ea (m9 + 1) w9 op_ bw bb bp (ufI none) wr_))), (o 5, .inl (dA 1, 2640, .inr (.inl fA_1))), (o 6, .inl (dA 1, 32, .inr (.inl fM_2)))] := hD
      rcases hq_5 with ⟨P_6, e_6, rfl, hH_6, hS_6⟩ | ⟨e_6, rfl, hE_6⟩
      · have sm_7 : MSm P_6 := cmbS_sm (by omega) sM sN e_6
        refine lv_if_ne (tgt := 133) hx hb dX7_carriesOutLatest_117 (by decide) (fun c_117 => ?_) (fun c_117 => ?_)
        rotate_left
        · exact absurd c_117 (by decide)
        subst hQe
        exact W.vret hx hb hr (fun tz ht hW => ⟨⟨(fA_1, fM_2, mu_3, ufI none), rfl, ⟨by rw [show carB p0 q0 r0 43 kk none M N = (P_6, none) from by simp only [carB, show opnS 43 = 0 from rfl, e_6]]; exact hH_6, by rw [show carB p0 q0 r0 43 kk none M N = (P_6, none) from by simp only [carB, show opnS 43 = 0 from rfl, e_6]], by rw [show carB p0 q0 r0 43 kk none M N = (P_6, none) from by simp only [carB, show opnS 43 = 0 from rfl, e_6]]; exact sm_7, hS_6⟩, B1_at ht (hP.sub [2, 3, 4, 0, 1] rfl) (hD.sub [2, 3, 4, 0, 1] (by decide) rfl) trivial⟩, hS.F ht⟩) hS.2.2 dX7_carriesOutLatest_133
      · have hh_8 := hE_6.hold (k := (32 + m9)) (by omega) hM
        have hh_9 := hE_6.hold (k := (32 + m9 + 1)) (by omega) hN
        refine lv_if_ne (tgt := 133) hx hb dX7_carriesOutLatest_117 (by decide) (fun c_117 => ?_) (fun c_117 => ?_)
        · exact absurd (by decide) c_117
        refine lv_aload_n hx hb dX7_carriesOutLatest_120 rfl (lv_at hl 3 rfl) ?_
        refine lv_aload_n hx hb dX7_carriesOutLatest_121 rfl (lv_at hl 3 rfl) ?_
        refine va_get (D := (dC, dI)) (ci := 2) (v := .ref (o 9)) (C := RX7) (T := TX7) (N := 27) hx hb hts in_X7 hown hK hP 2 rfl rfl 18 (by decide) (hts _ q2024) (fun _ h9 => h9) rfl dX7_carriesOutLatest_122 ?_
        refine lv_aload_n hx hb dX7_carriesOutLatest_125 rfl (lv_at hl 3 rfl) ?_
        refine va_get (D := (dC, dI)) (ci := 2) (v := .int (nI w9)) (C := RX7) (T := TX7) (N := 27) hx hb hts in_X7 hown hK hP 2 rfl rfl 19 (by decide) (hts _ q2025) (fun _ h9 => h9) rfl dX7_carriesOutLatest_126 ?_
        refine a_iald hx hb hK hP 1 0 rfl rfl (by omega) (by omega) dX7_carriesOutLatest_129 ?_
        refine e_i (y := nI kk) (hP9) ?_
        refine va_put (D := (dC, dI)) (ci := 2) (v := .int (nI kk)) (ty := .int) (C := RX7) (T := TX7) (N := 27) hx hb hts in_X7 tyX7 tyX7_ok nmX7 hown hK hP hD hS 2 rfl rfl 24 (by decide) (hts _ q2030) (fun _ h9 => h9) rfl (by decide +kernel) rfl rfl (Nat.le_of_ble_eq_true rfl) dX7_carriesOutLatest_130 (fun H locs hP hD hS => ?_)
        have hP : va_P (dC, dI) vwCl [(o 8, .inl (dA 0, 100, .inl fW)), (o 9, .inl (dA 0, 100, .inl fP)), (o 0, .inr (2, mFs o th p0 q0 r0 mu_3 (zP ln at_ er ea (m9 + 1) w9 op_ bw bb bp (nI kk) wr_))), (o 5, .inl (dA 1, 2640, .inr (.inl fA_1))), (o 6, .inl (dA 1, 32, .inr (.inl fM_2)))] H := hP
        have hD : va_D A [(o 8, .inl (dA 0, 100, .inl fW)), (o 9, .inl (dA 0, 100, .inl fP)), (o 0, .inr (2, mFs o th p0 q0 r0 mu_3 (zP ln at_ er ea (m9 + 1) w9 op_ bw bb bp (nI kk) wr_))), (o 5, .inl (dA 1, 2640, .inr (.inl fA_1))), (o 6, .inl (dA 1, 32, .inr (.inl fM_2)))] := hD
        subst hQe
        exact W.vret hx hb hr (fun tz ht hW => ⟨⟨(fA_1, fM_2, mu_3, nI kk), rfl, ⟨by rw [show carB p0 q0 r0 43 kk none M N = (M, some kk) from by simp only [carB, show opnS 43 = 0 from rfl, e_6]]; exact hE_6.hold (by omega) hM, by rw [show carB p0 q0 r0 43 kk none M N = (M, some kk) from by simp only [carB, show opnS 43 = 0 from rfl, e_6]]; rfl, by rw [show carB p0 q0 r0 43 kk none M N = (M, some kk) from by simp only [carB, show opnS 43 = 0 from rfl, e_6]]; exact sM, fun k9 hk9 => hE_6 k9 hk9.1⟩, B1_at ht (hP.sub [2, 3, 4, 0, 1] rfl) (hD.sub [2, 3, 4, 0, 1] (by decide) rfl) trivial⟩, hS.F ht⟩) hS.2.2 dX7_carriesOutLatest_133
  · refine e_i (y := nI 45) (hW9) ?_
    refine lv_istore_n (lv' := [(2, .int (nI 45)), (1, .int (nI (32 + m9 + 1))), (0, .ref (o 0))]) hx hb dX7_carriesOutLatest_29 rfl hl (by decide) rfl (fun ls hl => ?_)
    refine lv_iload_n hx hb dX7_carriesOutLatest_30 rfl (lv_at hl 0 rfl) ?_
    refine lv_bipush (v := nI 110) hx hb dX7_carriesOutLatest_31 (by decide) ?_
    refine lv_icmp_ne (tgt := 45) hx hb dX7_carriesOutLatest_33 (by decide) (fun c_33 => ?_) (fun c_33 => ?_)
    rotate_left
    · exact absurd c_33 (by decide)
    refine lv_iload_n hx hb dX7_carriesOutLatest_45 rfl (lv_at hl 0 rfl) ?_
    refine lv_bipush (v := nI 43) hx hb dX7_carriesOutLatest_46 (by decide) ?_
    refine lv_icmp_ne (tgt := 55) hx hb dX7_carriesOutLatest_48 (by decide) (fun c_48 => ?_) (fun c_48 => ?_)
    rotate_left
    · exact absurd c_48 (by decide)
    refine lv_iload_n hx hb dX7_carriesOutLatest_55 rfl (lv_at hl 0 rfl) ?_
    refine lv_bipush (v := nI 45) hx hb dX7_carriesOutLatest_56 (by decide) ?_
    refine lv_icmp_ne (tgt := 65) hx hb dX7_carriesOutLatest_58 (by decide) (fun c_58 => ?_) (fun c_58 => ?_)
    · exact absurd (by decide) c_58
    refine lv_iconst (v := nI 1) hx hb dX7_carriesOutLatest_61 (by decide) ?_
    refine lv_goto (tgt := 86) hx hb dX7_carriesOutLatest_62 (by decide) ?_
    refine lv_istore_n (lv' := [(3, .int (nI 1)), (2, .int (nI 45)), (1, .int (nI (32 + m9 + 1))), (0, .ref (o 0))]) hx hb dX7_carriesOutLatest_86 rfl hl (by decide) rfl (fun ls hl => ?_)
    refine lv_aload_n hx hb dX7_carriesOutLatest_87 rfl (lv_at hl 3 rfl) ?_
    refine lv_dup hx hb dX7_carriesOutLatest_88 rfl ?_
    refine va_get (D := (dC, dI)) (ci := 2) (v := .int (nI (m9 + 2))) (C := RX7) (T := TX7) (N := 27) hx hb hts in_X7 hown hK hP 0 rfl rfl 16 (by decide) (hts _ q2022) (fun _ h9 => h9) rfl dX7_carriesOutLatest_89 ?_
    refine lv_iconst (v := nI 1) hx hb dX7_carriesOutLatest_92 (by decide) ?_
    refine lv_isub hx hb dX7_carriesOutLatest_93 ?_
    refine e_i (y := nI (m9 + 1)) ((pk_sub (by omega)).trans (n_eq (by omega))) ?_
    refine va_put (D := (dC, dI)) (ci := 2) (v := .int (nI (m9 + 1))) (ty := .int) (C := RX7) (T := TX7) (N := 27) hx hb hts in_X7 tyX7 tyX7_ok nmX7 hown hK hP hD hS 0 rfl rfl 16 (by decide) (hts _ q2022) (fun _ h9 => h9) rfl (by decide +kernel) rfl rfl (Nat.le_of_ble_eq_true rfl) dX7_carriesOutLatest_94 (fun H locs hP hD hS => ?_)
    have hP : va_P (dC, dI) vwCl [(o 0, .inr (2, mFs o th p0 q0 r0 mu (zP ln at_ er ea (m9 + 1) w9 op_ bw bb bp (ufI unf) wr_))), (o 5, .inl (dA 1, 2640, .inr (.inl fA))), (o 6, .inl (dA 1, 32, .inr (.inl fM))), (o 8, .inl (dA 0, 100, .inl fW)), (o 9, .inl (dA 0, 100, .inl fP))] H := hP
    have hD : va_D A [(o 0, .inr (2, mFs o th p0 q0 r0 mu (zP ln at_ er ea (m9 + 1) w9 op_ bw bb bp (ufI unf) wr_))), (o 5, .inl (dA 1, 2640, .inr (.inl fA))), (o 6, .inl (dA 1, 32, .inr (.inl fM))), (o 8, .inl (dA 0, 100, .inl fW)), (o 9, .inl (dA 0, 100, .inl fP))] := hD
    refine lv_aload_n hx hb dX7_carriesOutLatest_97 rfl (lv_at hl 3 rfl) ?_
    refine va_get (D := (dC, dI)) (ci := 2) (v := .int (ufI unf)) (C := RX7) (T := TX7) (N := 27) hx hb hts in_X7 hown hK hP 0 rfl rfl 24 (by decide) (hts _ q2030) (fun _ h9 => h9) rfl dX7_carriesOutLatest_98 ?_
    refine lv_iconst (v := (-1)) hx hb dX7_carriesOutLatest_101 (by decide) ?_
    refine lv_icmp_ne (tgt := 133) hx hb dX7_carriesOutLatest_102 (by decide) (fun c_102 => ?_) (fun c_102 => ?_)
    · obtain ⟨ku, rfl⟩ : ∃ k, unf = some k := by
        cases unf with
        | none => exact absurd rfl c_102
        | some k => exact ⟨k, rfl⟩
      subst hQe
      exact W.vret hx hb hr (fun tz ht hW => ⟨⟨(fA, fM, mu, ufI (some ku)), rfl, ⟨hM, rfl, sM, fun k9 hk9 i9 hi9 => rfl⟩, B1_at ht (hP.sub [0, 1, 2, 3, 4] rfl) (hD.sub [0, 1, 2, 3, 4] (by decide) rfl) trivial⟩, hS.F ht⟩) hS.2.2 dX7_carriesOutLatest_133
    · obtain rfl := ufI_n c_102 hu9
      refine lv_aload_n hx hb dX7_carriesOutLatest_105 rfl (lv_at hl 3 rfl) ?_
      refine lv_iload_n hx hb dX7_carriesOutLatest_106 rfl (lv_at hl 0 rfl) ?_
      refine lv_iload_n hx hb dX7_carriesOutLatest_107 rfl (lv_at hl 2 rfl) ?_
      refine lv_iconst (v := nI 1) hx hb dX7_carriesOutLatest_108 (by decide) ?_
      refine lv_isub hx hb dX7_carriesOutLatest_109 ?_
      refine e_i (y := nI (32 + m9)) ((pk_sub (by omega)).trans (n_eq (by omega))) ?_
      refine lv_iload_n hx hb dX7_carriesOutLatest_110 rfl (lv_at hl 2 rfl) ?_
      refine lv_iload_n hx hb dX7_carriesOutLatest_111 rfl (lv_at hl 2 rfl) ?_
      refine lv_iconst (v := nI 1) hx hb dX7_carriesOutLatest_112 (by decide) ?_
      refine lv_isub hx hb dX7_carriesOutLatest_113 ?_
      refine e_i (y := nI (32 + m9)) ((pk_sub (by omega)).trans (n_eq (by omega))) ?_
      have hF9 := va_free (wc := [(o 0, .inr (2, mFs o th p0 q0 r0 mu (zP ln at_ er ea (m9 + 1) w9 op_ bw bb bp (ufI none) wr_))), (o 5, .inl (dA 1, 2640, .inr (.inl fA))), (o 6, .inl (dA 1, 32, .inr (.inl fM)))]) hD hS (fun q h => hA q h) [0, 1, 2] rfl
      refine c_i (wr := [(o 8, .inl (dA 0, 100, .inl fW)), (o 9, .inl (dA 0, 100, .inl fP))]) (va_runV (As := [.int (nI 1), .int (nI (32 + m9)), .int (nI (32 + m9 + 1)), .int (nI (32 + m9))]) (rest := []) ⟨hx, hb, hml, hown, hts⟩ (x7_carriesOut Z (va_A [(o 0, .inr (2, mFs o th p0 q0 r0 mu (zP ln at_ er ea (m9 + 1) w9 op_ bw bb bp (ufI none) wr_))), (o 5, .inl (dA 1, 2640, .inr (.inl fA))), (o 6, .inl (dA 1, 32, .inr (.inl fM)))] H.size) H.size (fun q h => Or.inr h) o th p0 q0 r0 mu (zP ln at_ er ea (m9 + 1) w9 op_ bw bb bp (ufI none) wr_) fA fM 1 (32 + m9) (32 + m9 + 1) (32 + m9) M N (by omega) (by omega) (by omega) (by omega) (by omega) (by omega) (by omega) (by omega) hM hN sM sN) (cwV 4 hts (lw_V q2107 q2109 qs35 q107 q2110) rfl rfl rfl (by decide +kernel) ⟨Nat.le_of_ble_eq_true rfl, Nat.le_of_ble_eq_true rfl⟩) (gP_V (va_recv hK hP (ci := 2) (q0 := 0) rfl rfl) hG hS (fun q _ h => hF9 q h) ⟨rfl, (hP.sub (ws' := [(o 0, .inr (2, mFs o th p0 q0 r0 mu (zP ln at_ er ea (m9 + 1) w9 op_ bw bb bp (ufI none) wr_))), (o 5, .inl (dA 1, 2640, .inr (.inl fA))), (o 6, .inl (dA 1, 32, .inr (.inl fM)))]) [0, 1, 2] rfl), (hD.sub (ws' := [(o 0, .inr (2, mFs o th p0 q0 r0 mu (zP ln at_ er ea (m9 + 1) w9 op_ bw bb bp (ufI none) wr_))), (o 5, .inl (dA 1, 2640, .inr (.inl fA))), (o 6, .inl (dA 1, 32, .inr (.inl fM)))]) [0, 1, 2] (by decide) rfl).self⟩) rfl rfl hl.1 rfl (lv_room (Nat.le_of_ble_eq_true rfl)) dX7_carriesOutLatest_114 ⟨by first | decide | omega, by first | decide | omega⟩) hP hD hS hA [0, 1, 2] [3, 4] rfl rfl (by decide) (by decide) (fun r9 u9 H locs hq hX hz hk hP hD hS => ?_)
      obtain ⟨fA_10, fM_11, mu_12⟩ := u9
      obtain ⟨r_13, rfl⟩ : ∃ z, z = r9 := ⟨_, rfl⟩
      have hq_14 := hq
      try dsimp only at hq_14
      have hP : va_P (dC, dI) vwCl [(o 8, .inl (dA 0, 100, .inl fW)), (o 9, .inl (dA 0, 100, .inl fP)), (o 0, .inr (2, mFs o th p0 q0 r0 mu_12 (zP ln at_ er ea (m9 + 1) w9 op_ bw bb bp (ufI none) wr_))), (o 5, .inl (dA 1, 2640, .inr (.inl fA_10))), (o 6, .inl (dA 1, 32, .inr (.inl fM_11)))] H := hP
      have hD : va_D A [(o 8, .inl (dA 0, 100, .inl fW)), (o 9, .inl (dA 0, 100, .inl fP)), (o 0, .inr (2, mFs o th p0 q0 r0 mu_12 (zP ln at_ er ea (m9 + 1) w9 op_ bw bb bp (ufI none) wr_))), (o 5, .inl (dA 1, 2640, .inr (.inl fA_10))), (o 6, .inl (dA 1, 32, .inr (.inl fM_11)))] := hD
      rcases hq_14 with ⟨P_15, e_15, rfl, hH_15, hS_15⟩ | ⟨e_15, rfl, hE_15⟩
      · have sm_16 : MSm P_15 := cmbS_sm (by omega) sM sN e_15
        refine lv_if_ne (tgt := 133) hx hb dX7_carriesOutLatest_117 (by decide) (fun c_117 => ?_) (fun c_117 => ?_)
        rotate_left
        · exact absurd c_117 (by decide)
        subst hQe
        exact W.vret hx hb hr (fun tz ht hW => ⟨⟨(fA_10, fM_11, mu_12, ufI none), rfl, ⟨by rw [show carB p0 q0 r0 45 kk none M N = (P_15, none) from by simp only [carB, show opnS 45 = 1 from rfl, e_15]]; exact hH_15, by rw [show carB p0 q0 r0 45 kk none M N = (P_15, none) from by simp only [carB, show opnS 45 = 1 from rfl, e_15]], by rw [show carB p0 q0 r0 45 kk none M N = (P_15, none) from by simp only [carB, show opnS 45 = 1 from rfl, e_15]]; exact sm_16, hS_15⟩, B1_at ht (hP.sub [2, 3, 4, 0, 1] rfl) (hD.sub [2, 3, 4, 0, 1] (by decide) rfl) trivial⟩, hS.F ht⟩) hS.2.2 dX7_carriesOutLatest_133
      · have hh_17 := hE_15.hold (k := (32 + m9)) (by omega) hM
        have hh_18 := hE_15.hold (k := (32 + m9 + 1)) (by omega) hN
        refine lv_if_ne (tgt := 133) hx hb dX7_carriesOutLatest_117 (by decide) (fun c_117 => ?_) (fun c_117 => ?_)
        · exact absurd (by decide) c_117
        refine lv_aload_n hx hb dX7_carriesOutLatest_120 rfl (lv_at hl 3 rfl) ?_
        refine lv_aload_n hx hb dX7_carriesOutLatest_121 rfl (lv_at hl 3 rfl) ?_
        refine va_get (D := (dC, dI)) (ci := 2) (v := .ref (o 9)) (C := RX7) (T := TX7) (N := 27) hx hb hts in_X7 hown hK hP 2 rfl rfl 18 (by decide) (hts _ q2024) (fun _ h9 => h9) rfl dX7_carriesOutLatest_122 ?_
        refine lv_aload_n hx hb dX7_carriesOutLatest_125 rfl (lv_at hl 3 rfl) ?_
        refine va_get (D := (dC, dI)) (ci := 2) (v := .int (nI w9)) (C := RX7) (T := TX7) (N := 27) hx hb hts in_X7 hown hK hP 2 rfl rfl 19 (by decide) (hts _ q2025) (fun _ h9 => h9) rfl dX7_carriesOutLatest_126 ?_
        refine a_iald hx hb hK hP 1 0 rfl rfl (by omega) (by omega) dX7_carriesOutLatest_129 ?_
        refine e_i (y := nI kk) (hP9) ?_
        refine va_put (D := (dC, dI)) (ci := 2) (v := .int (nI kk)) (ty := .int) (C := RX7) (T := TX7) (N := 27) hx hb hts in_X7 tyX7 tyX7_ok nmX7 hown hK hP hD hS 2 rfl rfl 24 (by decide) (hts _ q2030) (fun _ h9 => h9) rfl (by decide +kernel) rfl rfl (Nat.le_of_ble_eq_true rfl) dX7_carriesOutLatest_130 (fun H locs hP hD hS => ?_)
        have hP : va_P (dC, dI) vwCl [(o 8, .inl (dA 0, 100, .inl fW)), (o 9, .inl (dA 0, 100, .inl fP)), (o 0, .inr (2, mFs o th p0 q0 r0 mu_12 (zP ln at_ er ea (m9 + 1) w9 op_ bw bb bp (nI kk) wr_))), (o 5, .inl (dA 1, 2640, .inr (.inl fA_10))), (o 6, .inl (dA 1, 32, .inr (.inl fM_11)))] H := hP
        have hD : va_D A [(o 8, .inl (dA 0, 100, .inl fW)), (o 9, .inl (dA 0, 100, .inl fP)), (o 0, .inr (2, mFs o th p0 q0 r0 mu_12 (zP ln at_ er ea (m9 + 1) w9 op_ bw bb bp (nI kk) wr_))), (o 5, .inl (dA 1, 2640, .inr (.inl fA_10))), (o 6, .inl (dA 1, 32, .inr (.inl fM_11)))] := hD
        subst hQe
        exact W.vret hx hb hr (fun tz ht hW => ⟨⟨(fA_10, fM_11, mu_12, nI kk), rfl, ⟨by rw [show carB p0 q0 r0 45 kk none M N = (M, some kk) from by simp only [carB, show opnS 45 = 1 from rfl, e_15]]; exact hE_15.hold (by omega) hM, by rw [show carB p0 q0 r0 45 kk none M N = (M, some kk) from by simp only [carB, show opnS 45 = 1 from rfl, e_15]]; rfl, by rw [show carB p0 q0 r0 45 kk none M N = (M, some kk) from by simp only [carB, show opnS 45 = 1 from rfl, e_15]]; exact sM, fun k9 hk9 => hE_15 k9 hk9.1⟩, B1_at ht (hP.sub [2, 3, 4, 0, 1] rfl) (hD.sub [2, 3, 4, 0, 1] (by decide) rfl) trivial⟩, hS.F ht⟩) hS.2.2 dX7_carriesOutLatest_133
  · refine e_i (y := nI 42) (hW9) ?_
    refine lv_istore_n (lv' := [(2, .int (nI 42)), (1, .int (nI (32 + m9 + 1))), (0, .ref (o 0))]) hx hb dX7_carriesOutLatest_29 rfl hl (by decide) rfl (fun ls hl => ?_)
    refine lv_iload_n hx hb dX7_carriesOutLatest_30 rfl (lv_at hl 0 rfl) ?_
    refine lv_bipush (v := nI 110) hx hb dX7_carriesOutLatest_31 (by decide) ?_
    refine lv_icmp_ne (tgt := 45) hx hb dX7_carriesOutLatest_33 (by decide) (fun c_33 => ?_) (fun c_33 => ?_)
    rotate_left
    · exact absurd c_33 (by decide)
    refine lv_iload_n hx hb dX7_carriesOutLatest_45 rfl (lv_at hl 0 rfl) ?_
    refine lv_bipush (v := nI 43) hx hb dX7_carriesOutLatest_46 (by decide) ?_
    refine lv_icmp_ne (tgt := 55) hx hb dX7_carriesOutLatest_48 (by decide) (fun c_48 => ?_) (fun c_48 => ?_)
    rotate_left
    · exact absurd c_48 (by decide)
    refine lv_iload_n hx hb dX7_carriesOutLatest_55 rfl (lv_at hl 0 rfl) ?_
    refine lv_bipush (v := nI 45) hx hb dX7_carriesOutLatest_56 (by decide) ?_
    refine lv_icmp_ne (tgt := 65) hx hb dX7_carriesOutLatest_58 (by decide) (fun c_58 => ?_) (fun c_58 => ?_)
    rotate_left
    · exact absurd c_58 (by decide)
    refine lv_iload_n hx hb dX7_carriesOutLatest_65 rfl (lv_at hl 0 rfl) ?_
    refine lv_bipush (v := nI 42) hx hb dX7_carriesOutLatest_66 (by decide) ?_
    refine lv_icmp_ne (tgt := 75) hx hb dX7_carriesOutLatest_68 (by decide) (fun c_68 => ?_) (fun c_68 => ?_)
    · exact absurd (by decide) c_68
    refine lv_iconst (v := nI 2) hx hb dX7_carriesOutLatest_71 (by decide) ?_
    refine lv_goto (tgt := 86) hx hb dX7_carriesOutLatest_72 (by decide) ?_
    refine lv_istore_n (lv' := [(3, .int (nI 2)), (2, .int (nI 42)), (1, .int (nI (32 + m9 + 1))), (0, .ref (o 0))]) hx hb dX7_carriesOutLatest_86 rfl hl (by decide) rfl (fun ls hl => ?_)
    refine lv_aload_n hx hb dX7_carriesOutLatest_87 rfl (lv_at hl 3 rfl) ?_
    refine lv_dup hx hb dX7_carriesOutLatest_88 rfl ?_
    refine va_get (D := (dC, dI)) (ci := 2) (v := .int (nI (m9 + 2))) (C := RX7) (T := TX7) (N := 27) hx hb hts in_X7 hown hK hP 0 rfl rfl 16 (by decide) (hts _ q2022) (fun _ h9 => h9) rfl dX7_carriesOutLatest_89 ?_
    refine lv_iconst (v := nI 1) hx hb dX7_carriesOutLatest_92 (by decide) ?_
    refine lv_isub hx hb dX7_carriesOutLatest_93 ?_
    refine e_i (y := nI (m9 + 1)) ((pk_sub (by omega)).trans (n_eq (by omega))) ?_
    refine va_put (D := (dC, dI)) (ci := 2) (v := .int (nI (m9 + 1))) (ty := .int) (C := RX7) (T := TX7) (N := 27) hx hb hts in_X7 tyX7 tyX7_ok nmX7 hown hK hP hD hS 0 rfl rfl 16 (by decide) (hts _ q2022) (fun _ h9 => h9) rfl (by decide +kernel) rfl rfl (Nat.le_of_ble_eq_true rfl) dX7_carriesOutLatest_94 (fun H locs hP hD hS => ?_)
    have hP : va_P (dC, dI) vwCl [(o 0, .inr (2, mFs o th p0 q0 r0 mu (zP ln at_ er ea (m9 + 1) w9 op_ bw bb bp (ufI unf) wr_))), (o 5, .inl (dA 1, 2640, .inr (.inl fA))), (o 6, .inl (dA 1, 32, .inr (.inl fM))), (o 8, .inl (dA 0, 100, .inl fW)), (o 9, .inl (dA 0, 100, .inl fP))] H := hP
    have hD : va_D A [(o 0, .inr (2, mFs o th p0 q0 r0 mu (zP ln at_ er ea (m9 + 1) w9 op_ bw bb bp (ufI unf) wr_))), (o 5, .inl (dA 1, 2640, .inr (.inl fA))), (o 6, .inl (dA 1, 32, .inr (.inl fM))), (o 8, .inl (dA 0, 100, .inl fW)), (o 9, .inl (dA 0, 100, .inl fP))] := hD
    refine lv_aload_n hx hb dX7_carriesOutLatest_97 rfl (lv_at hl 3 rfl) ?_
    refine va_get (D := (dC, dI)) (ci := 2) (v := .int (ufI unf)) (C := RX7) (T := TX7) (N := 27) hx hb hts in_X7 hown hK hP 0 rfl rfl 24 (by decide) (hts _ q2030) (fun _ h9 => h9) rfl dX7_carriesOutLatest_98 ?_
    refine lv_iconst (v := (-1)) hx hb dX7_carriesOutLatest_101 (by decide) ?_
    refine lv_icmp_ne (tgt := 133) hx hb dX7_carriesOutLatest_102 (by decide) (fun c_102 => ?_) (fun c_102 => ?_)
    · obtain ⟨ku, rfl⟩ : ∃ k, unf = some k := by
        cases unf with
        | none => exact absurd rfl c_102
        | some k => exact ⟨k, rfl⟩
      subst hQe
      exact W.vret hx hb hr (fun tz ht hW => ⟨⟨(fA, fM, mu, ufI (some ku)), rfl, ⟨hM, rfl, sM, fun k9 hk9 i9 hi9 => rfl⟩, B1_at ht (hP.sub [0, 1, 2, 3, 4] rfl) (hD.sub [0, 1, 2, 3, 4] (by decide) rfl) trivial⟩, hS.F ht⟩) hS.2.2 dX7_carriesOutLatest_133
    · obtain rfl := ufI_n c_102 hu9
      refine lv_aload_n hx hb dX7_carriesOutLatest_105 rfl (lv_at hl 3 rfl) ?_
      refine lv_iload_n hx hb dX7_carriesOutLatest_106 rfl (lv_at hl 0 rfl) ?_
      refine lv_iload_n hx hb dX7_carriesOutLatest_107 rfl (lv_at hl 2 rfl) ?_
      refine lv_iconst (v := nI 1) hx hb dX7_carriesOutLatest_108 (by decide) ?_
      refine lv_isub hx hb dX7_carriesOutLatest_109 ?_
      refine e_i (y := nI (32 + m9)) ((pk_sub (by omega)).trans (n_eq (by omega))) ?_
      refine lv_iload_n hx hb dX7_carriesOutLatest_110 rfl (lv_at hl 2 rfl) ?_
      refine lv_iload_n hx hb dX7_carriesOutLatest_111 rfl (lv_at hl 2 rfl) ?_
      refine lv_iconst (v := nI 1) hx hb dX7_carriesOutLatest_112 (by decide) ?_
      refine lv_isub hx hb dX7_carriesOutLatest_113 ?_
      refine e_i (y := nI (32 + m9)) ((pk_sub (by omega)).trans (n_eq (by omega))) ?_
      have hF9 := va_free (wc := [(o 0, .inr (2, mFs o th p0 q0 r0 mu (zP ln at_ er ea (m9 + 1) w9 op_ bw bb bp (ufI none) wr_))), (o 5, .inl (dA 1, 2640, .inr (.inl fA))), (o 6, .inl (dA 1, 32, .inr (.inl fM)))]) hD hS (fun q h => hA q h) [0, 1, 2] rfl
      refine c_i (wr := [(o 8, .inl (dA 0, 100, .inl fW)), (o 9, .inl (dA 0, 100, .inl fP))]) (va_runV (As := [.int (nI 2), .int (nI (32 + m9)), .int (nI (32 + m9 + 1)), .int (nI (32 + m9))]) (rest := []) ⟨hx, hb, hml, hown, hts⟩ (x7_carriesOut Z (va_A [(o 0, .inr (2, mFs o th p0 q0 r0 mu (zP ln at_ er ea (m9 + 1) w9 op_ bw bb bp (ufI none) wr_))), (o 5, .inl (dA 1, 2640, .inr (.inl fA))), (o 6, .inl (dA 1, 32, .inr (.inl fM)))] H.size) H.size (fun q h => Or.inr h) o th p0 q0 r0 mu (zP ln at_ er ea (m9 + 1) w9 op_ bw bb bp (ufI none) wr_) fA fM 2 (32 + m9) (32 + m9 + 1) (32 + m9) M N (by omega) (by omega) (by omega) (by omega) (by omega) (by omega) (by omega) (by omega) hM hN sM sN) (cwV 4 hts (lw_V q2107 q2109 qs35 q107 q2110) rfl rfl rfl (by decide +kernel) ⟨Nat.le_of_ble_eq_true rfl, Nat.le_of_ble_eq_true rfl⟩) (gP_V (va_recv hK hP (ci := 2) (q0 := 0) rfl rfl) hG hS (fun q _ h => hF9 q h) ⟨rfl, (hP.sub (ws' := [(o 0, .inr (2, mFs o th p0 q0 r0 mu (zP ln at_ er ea (m9 + 1) w9 op_ bw bb bp (ufI none) wr_))), (o 5, .inl (dA 1, 2640, .inr (.inl fA))), (o 6, .inl (dA 1, 32, .inr (.inl fM)))]) [0, 1, 2] rfl), (hD.sub (ws' := [(o 0, .inr (2, mFs o th p0 q0 r0 mu (zP ln at_ er ea (m9 + 1) w9 op_ bw bb bp (ufI none) wr_))), (o 5, .inl (dA 1, 2640, .inr (.inl fA))), (o 6, .inl (dA 1, 32, .inr (.inl fM)))]) [0, 1, 2] (by decide) rfl).self⟩) rfl rfl hl.1 rfl (lv_room (Nat.le_of_ble_eq_true rfl)) dX7_carriesOutLatest_114 ⟨by first | decide | omega, by first | decide | omega⟩) hP hD hS hA [0, 1, 2] [3, 4] rfl rfl (by decide) (by decide) (fun r9 u9 H locs hq hX hz hk hP hD hS => ?_)
      obtain ⟨fA_19, fM_20, mu_21⟩ := u9
      obtain ⟨r_22, rfl⟩ : ∃ z, z = r9 := ⟨_, rfl⟩
      have hq_23 := hq
      try dsimp only at hq_23
      have hP : va_P (dC, dI) vwCl [(o 8, .inl (dA 0, 100, .inl fW)), (o 9, .inl (dA 0, 100, .inl fP)), (o 0, .inr (2, mFs o th p0 q0 r0 mu_21 (zP ln at_ er ea (m9 + 1) w9 op_ bw bb bp (ufI none) wr_))), (o 5, .inl (dA 1, 2640, .inr (.inl fA_19))), (o 6, .inl (dA 1, 32, .inr (.inl fM_20)))] H := hP
      have hD : va_D A [(o 8, .inl (dA 0, 100, .inl fW)), (o 9, .inl (dA 0, 100, .inl fP)), (o 0, .inr (2, mFs o th p0 q0 r0 mu_21 (zP ln at_ er ea (m9 + 1) w9 op_ bw bb bp (ufI none) wr_))), (o 5, .inl (dA 1, 2640, .inr (.inl fA_19))), (o 6, .inl (dA 1, 32, .inr (.inl fM_20)))] := hD
      rcases hq_23 with ⟨P_24, e_24, rfl, hH_24, hS_24⟩ | ⟨e_24, rfl, hE_24⟩
      · have sm_25 : MSm P_24 := cmbS_sm (by omega) sM sN e_24
        refine lv_if_ne (tgt := 133) hx hb dX7_carriesOutLatest_117 (by decide) (fun c_117 => ?_) (fun c_117 => ?_)
        rotate_left
        · exact absurd c_117 (by decide)
        subst hQe
        exact W.vret hx hb hr (fun tz ht hW => ⟨⟨(fA_19, fM_20, mu_21, ufI none), rfl, ⟨by rw [show carB p0 q0 r0 42 kk none M N = (P_24, none) from by simp only [carB, show opnS 42 = 2 from rfl, e_24]]; exact hH_24, by rw [show carB p0 q0 r0 42 kk none M N = (P_24, none) from by simp only [carB, show opnS 42 = 2 from rfl, e_24]], by rw [show carB p0 q0 r0 42 kk none M N = (P_24, none) from by simp only [carB, show opnS 42 = 2 from rfl, e_24]]; exact sm_25, hS_24⟩, B1_at ht (hP.sub [2, 3, 4, 0, 1] rfl) (hD.sub [2, 3, 4, 0, 1] (by decide) rfl) trivial⟩, hS.F ht⟩) hS.2.2 dX7_carriesOutLatest_133
      · have hh_26 := hE_24.hold (k := (32 + m9)) (by omega) hM
        have hh_27 := hE_24.hold (k := (32 + m9 + 1)) (by omega) hN
        refine lv_if_ne (tgt := 133) hx hb dX7_carriesOutLatest_117 (by decide) (fun c_117 => ?_) (fun c_117 => ?_)
        · exact absurd (by decide) c_117
        refine lv_aload_n hx hb dX7_carriesOutLatest_120 rfl (lv_at hl 3 rfl) ?_
        refine lv_aload_n hx hb dX7_carriesOutLatest_121 rfl (lv_at hl 3 rfl) ?_
        refine va_get (D := (dC, dI)) (ci := 2) (v := .ref (o 9)) (C := RX7) (T := TX7) (N := 27) hx hb hts in_X7 hown hK hP 2 rfl rfl 18 (by decide) (hts _ q2024) (fun _ h9 => h9) rfl dX7_carriesOutLatest_122 ?_
        refine lv_aload_n hx hb dX7_carriesOutLatest_125 rfl (lv_at hl 3 rfl) ?_
        refine va_get (D := (dC, dI)) (ci := 2) (v := .int (nI w9)) (C := RX7) (T := TX7) (N := 27) hx hb hts in_X7 hown hK hP 2 rfl rfl 19 (by decide) (hts _ q2025) (fun _ h9 => h9) rfl dX7_carriesOutLatest_126 ?_
        refine a_iald hx hb hK hP 1 0 rfl rfl (by omega) (by omega) dX7_carriesOutLatest_129 ?_
        refine e_i (y := nI kk) (hP9) ?_
        refine va_put (D := (dC, dI)) (ci := 2) (v := .int (nI kk)) (ty := .int) (C := RX7) (T := TX7) (N := 27) hx hb hts in_X7 tyX7 tyX7_ok nmX7 hown hK hP hD hS 2 rfl rfl 24 (by decide) (hts _ q2030) (fun _ h9 => h9) rfl (by decide +kernel) rfl rfl (Nat.le_of_ble_eq_true rfl) dX7_carriesOutLatest_130 (fun H locs hP hD hS => ?_)
        have hP : va_P (dC, dI) vwCl [(o 8, .inl (dA 0, 100, .inl fW)), (o 9, .inl (dA 0, 100, .inl fP)), (o 0, .inr (2, mFs o th p0 q0 r0 mu_21 (zP ln at_ er ea (m9 + 1) w9 op_ bw bb bp (nI kk) wr_))), (o 5, .inl (dA 1, 2640, .inr (.inl fA_19))), (o 6, .inl (dA 1, 32, .inr (.inl fM_20)))] H := hP
        have hD : va_D A [(o 8, .inl (dA 0, 100, .inl fW)), (o 9, .inl (dA 0, 100, .inl fP)), (o 0, .inr (2, mFs o th p0 q0 r0 mu_21 (zP ln at_ er ea (m9 + 1) w9 op_ bw bb bp (nI kk) wr_))), (o 5, .inl (dA 1, 2640, .inr (.inl fA_19))), (o 6, .inl (dA 1, 32, .inr (.inl fM_20)))] := hD
        subst hQe
        exact W.vret hx hb hr (fun tz ht hW => ⟨⟨(fA_19, fM_20, mu_21, nI kk), rfl, ⟨by rw [show carB p0 q0 r0 42 kk none M N = (M, some kk) from by simp only [carB, show opnS 42 = 2 from rfl, e_24]]; exact hE_24.hold (by omega) hM, by rw [show carB p0 q0 r0 42 kk none M N = (M, some kk) from by simp only [carB, show opnS 42 = 2 from rfl, e_24]]; rfl, by rw [show carB p0 q0 r0 42 kk none M N = (M, some kk) from by simp only [carB, show opnS 42 = 2 from rfl, e_24]]; exact sM, fun k9 hk9 => hE_24 k9 hk9.1⟩, B1_at ht (hP.sub [2, 3, 4, 0, 1] rfl) (hD.sub [2, 3, 4, 0, 1] (by decide) rfl) trivial⟩, hS.F ht⟩) hS.2.2 dX7_carriesOutLatest_133
  · refine e_i (y := nI 94) (hW9) ?_
    refine lv_istore_n (lv' := [(2, .int (nI 94)), (1, .int (nI (32 + m9 + 1))), (0, .ref (o 0))]) hx hb dX7_carriesOutLatest_29 rfl hl (by decide) rfl (fun ls hl => ?_)
    refine lv_iload_n hx hb dX7_carriesOutLatest_30 rfl (lv_at hl 0 rfl) ?_
    refine lv_bipush (v := nI 110) hx hb dX7_carriesOutLatest_31 (by decide) ?_
    refine lv_icmp_ne (tgt := 45) hx hb dX7_carriesOutLatest_33 (by decide) (fun c_33 => ?_) (fun c_33 => ?_)
    rotate_left
    · exact absurd c_33 (by decide)
    refine lv_iload_n hx hb dX7_carriesOutLatest_45 rfl (lv_at hl 0 rfl) ?_
    refine lv_bipush (v := nI 43) hx hb dX7_carriesOutLatest_46 (by decide) ?_
    refine lv_icmp_ne (tgt := 55) hx hb dX7_carriesOutLatest_48 (by decide) (fun c_48 => ?_) (fun c_48 => ?_)
    rotate_left
    · exact absurd c_48 (by decide)
    refine lv_iload_n hx hb dX7_carriesOutLatest_55 rfl (lv_at hl 0 rfl) ?_
    refine lv_bipush (v := nI 45) hx hb dX7_carriesOutLatest_56 (by decide) ?_
    refine lv_icmp_ne (tgt := 65) hx hb dX7_carriesOutLatest_58 (by decide) (fun c_58 => ?_) (fun c_58 => ?_)
    rotate_left
    · exact absurd c_58 (by decide)
    refine lv_iload_n hx hb dX7_carriesOutLatest_65 rfl (lv_at hl 0 rfl) ?_
    refine lv_bipush (v := nI 42) hx hb dX7_carriesOutLatest_66 (by decide) ?_
    refine lv_icmp_ne (tgt := 75) hx hb dX7_carriesOutLatest_68 (by decide) (fun c_68 => ?_) (fun c_68 => ?_)
    rotate_left
    · exact absurd c_68 (by decide)
    refine lv_iload_n hx hb dX7_carriesOutLatest_75 rfl (lv_at hl 0 rfl) ?_
    refine lv_bipush (v := nI 94) hx hb dX7_carriesOutLatest_76 (by decide) ?_
    refine lv_icmp_ne (tgt := 85) hx hb dX7_carriesOutLatest_78 (by decide) (fun c_78 => ?_) (fun c_78 => ?_)
    · exact absurd (by decide) c_78
    refine lv_iconst (v := nI 3) hx hb dX7_carriesOutLatest_81 (by decide) ?_
    refine lv_goto (tgt := 86) hx hb dX7_carriesOutLatest_82 (by decide) ?_
    refine lv_istore_n (lv' := [(3, .int (nI 3)), (2, .int (nI 94)), (1, .int (nI (32 + m9 + 1))), (0, .ref (o 0))]) hx hb dX7_carriesOutLatest_86 rfl hl (by decide) rfl (fun ls hl => ?_)
    refine lv_aload_n hx hb dX7_carriesOutLatest_87 rfl (lv_at hl 3 rfl) ?_
    refine lv_dup hx hb dX7_carriesOutLatest_88 rfl ?_
    refine va_get (D := (dC, dI)) (ci := 2) (v := .int (nI (m9 + 2))) (C := RX7) (T := TX7) (N := 27) hx hb hts in_X7 hown hK hP 0 rfl rfl 16 (by decide) (hts _ q2022) (fun _ h9 => h9) rfl dX7_carriesOutLatest_89 ?_
    refine lv_iconst (v := nI 1) hx hb dX7_carriesOutLatest_92 (by decide) ?_
    refine lv_isub hx hb dX7_carriesOutLatest_93 ?_
    refine e_i (y := nI (m9 + 1)) ((pk_sub (by omega)).trans (n_eq (by omega))) ?_
    refine va_put (D := (dC, dI)) (ci := 2) (v := .int (nI (m9 + 1))) (ty := .int) (C := RX7) (T := TX7) (N := 27) hx hb hts in_X7 tyX7 tyX7_ok nmX7 hown hK hP hD hS 0 rfl rfl 16 (by decide) (hts _ q2022) (fun _ h9 => h9) rfl (by decide +kernel) rfl rfl (Nat.le_of_ble_eq_true rfl) dX7_carriesOutLatest_94 (fun H locs hP hD hS => ?_)
    have hP : va_P (dC, dI) vwCl [(o 0, .inr (2, mFs o th p0 q0 r0 mu (zP ln at_ er ea (m9 + 1) w9 op_ bw bb bp (ufI unf) wr_))), (o 5, .inl (dA 1, 2640, .inr (.inl fA))), (o 6, .inl (dA 1, 32, .inr (.inl fM))), (o 8, .inl (dA 0, 100, .inl fW)), (o 9, .inl (dA 0, 100, .inl fP))] H := hP
    have hD : va_D A [(o 0, .inr (2, mFs o th p0 q0 r0 mu (zP ln at_ er ea (m9 + 1) w9 op_ bw bb bp (ufI unf) wr_))), (o 5, .inl (dA 1, 2640, .inr (.inl fA))), (o 6, .inl (dA 1, 32, .inr (.inl fM))), (o 8, .inl (dA 0, 100, .inl fW)), (o 9, .inl (dA 0, 100, .inl fP))] := hD
    refine lv_aload_n hx hb dX7_carriesOutLatest_97 rfl (lv_at hl 3 rfl) ?_
    refine va_get (D := (dC, dI)) (ci := 2) (v := .int (ufI unf)) (C := RX7) (T := TX7) (N := 27) hx hb hts in_X7 hown hK hP 0 rfl rfl 24 (by decide) (hts _ q2030) (fun _ h9 => h9) rfl dX7_carriesOutLatest_98 ?_
    refine lv_iconst (v := (-1)) hx hb dX7_carriesOutLatest_101 (by decide) ?_
    refine lv_icmp_ne (tgt := 133) hx hb dX7_carriesOutLatest_102 (by decide) (fun c_102 => ?_) (fun c_102 => ?_)
    · obtain ⟨ku, rfl⟩ : ∃ k, unf = some k := by
        cases unf with
        | none => exact absurd rfl c_102
        | some k => exact ⟨k, rfl⟩
      subst hQe
      exact W.vret hx hb hr (fun tz ht hW => ⟨⟨(fA, fM, mu, ufI (some ku)), rfl, ⟨hM, rfl, sM, fun k9 hk9 i9 hi9 => rfl⟩, B1_at ht (hP.sub [0, 1, 2, 3, 4] rfl) (hD.sub [0, 1, 2, 3, 4] (by decide) rfl) trivial⟩, hS.F ht⟩) hS.2.2 dX7_carriesOutLatest_133
    · obtain rfl := ufI_n c_102 hu9
      refine lv_aload_n hx hb dX7_carriesOutLatest_105 rfl (lv_at hl 3 rfl) ?_
      refine lv_iload_n hx hb dX7_carriesOutLatest_106 rfl (lv_at hl 0 rfl) ?_
      refine lv_iload_n hx hb dX7_carriesOutLatest_107 rfl (lv_at hl 2 rfl) ?_
      refine lv_iconst (v := nI 1) hx hb dX7_carriesOutLatest_108 (by decide) ?_
      refine lv_isub hx hb dX7_carriesOutLatest_109 ?_
      refine e_i (y := nI (32 + m9)) ((pk_sub (by omega)).trans (n_eq (by omega))) ?_
      refine lv_iload_n hx hb dX7_carriesOutLatest_110 rfl (lv_at hl 2 rfl) ?_
      refine lv_iload_n hx hb dX7_carriesOutLatest_111 rfl (lv_at hl 2 rfl) ?_
      refine lv_iconst (v := nI 1) hx hb dX7_carriesOutLatest_112 (by decide) ?_
      refine lv_isub hx hb dX7_carriesOutLatest_113 ?_
      refine e_i (y := nI (32 + m9)) ((pk_sub (by omega)).trans (n_eq (by omega))) ?_
      have hF9 := va_free (wc := [(o 0, .inr (2, mFs o th p0 q0 r0 mu (zP ln at_ er ea (m9 + 1) w9 op_ bw bb bp (ufI none) wr_))), (o 5, .inl (dA 1, 2640, .inr (.inl fA))), (o 6, .inl (dA 1, 32, .inr (.inl fM)))]) hD hS (fun q h => hA q h) [0, 1, 2] rfl
      refine c_i (wr := [(o 8, .inl (dA 0, 100, .inl fW)), (o 9, .inl (dA 0, 100, .inl fP))]) (va_runV (As := [.int (nI 3), .int (nI (32 + m9)), .int (nI (32 + m9 + 1)), .int (nI (32 + m9))]) (rest := []) ⟨hx, hb, hml, hown, hts⟩ (x7_carriesOut Z (va_A [(o 0, .inr (2, mFs o th p0 q0 r0 mu (zP ln at_ er ea (m9 + 1) w9 op_ bw bb bp (ufI none) wr_))), (o 5, .inl (dA 1, 2640, .inr (.inl fA))), (o 6, .inl (dA 1, 32, .inr (.inl fM)))] H.size) H.size (fun q h => Or.inr h) o th p0 q0 r0 mu (zP ln at_ er ea (m9 + 1) w9 op_ bw bb bp (ufI none) wr_) fA fM 3 (32 + m9) (32 + m9 + 1) (32 + m9) M N (by omega) (by omega) (by omega) (by omega) (by omega) (by omega) (by omega) (by omega) hM hN sM sN) (cwV 4 hts (lw_V q2107 q2109 qs35 q107 q2110) rfl rfl rfl (by decide +kernel) ⟨Nat.le_of_ble_eq_true rfl, Nat.le_of_ble_eq_true rfl⟩) (gP_V (va_recv hK hP (ci := 2) (q0 := 0) rfl rfl) hG hS (fun q _ h => hF9 q h) ⟨rfl, (hP.sub (ws' := [(o 0, .inr (2, mFs o th p0 q0 r0 mu (zP ln at_ er ea (m9 + 1) w9 op_ bw bb bp (ufI none) wr_))), (o 5, .inl (dA 1, 2640, .inr (.inl fA))), (o 6, .inl (dA 1, 32, .inr (.inl fM)))]) [0, 1, 2] rfl), (hD.sub (ws' := [(o 0, .inr (2, mFs o th p0 q0 r0 mu (zP ln at_ er ea (m9 + 1) w9 op_ bw bb bp (ufI none) wr_))), (o 5, .inl (dA 1, 2640, .inr (.inl fA))), (o 6, .inl (dA 1, 32, .inr (.inl fM)))]) [0, 1, 2] (by decide) rfl).self⟩) rfl rfl hl.1 rfl (lv_room (Nat.le_of_ble_eq_true rfl)) dX7_carriesOutLatest_114 ⟨by first | decide | omega, by first | decide | omega⟩) hP hD hS hA [0, 1, 2] [3, 4] rfl rfl (by decide) (by decide) (fun r9 u9 H locs hq hX hz hk hP hD hS => ?_)
      obtain ⟨fA_28, fM_29, mu_30⟩ := u9
      obtain ⟨r_31, rfl⟩ : ∃ z, z = r9 := ⟨_, rfl⟩
      have hq_32 := hq
      try dsimp only at hq_32
      have hP : va_P (dC, dI) vwCl [(o 8, .inl (dA 0, 100, .inl fW)), (o 9, .inl (dA 0, 100, .inl fP)), (o 0, .inr (2, mFs o th p0 q0 r0 mu_30 (zP ln at_ er ea (m9 + 1) w9 op_ bw bb bp (ufI none) wr_))), (o 5, .inl (dA 1, 2640, .inr (.inl fA_28))), (o 6, .inl (dA 1, 32, .inr (.inl fM_29)))] H := hP
      have hD : va_D A [(o 8, .inl (dA 0, 100, .inl fW)), (o 9, .inl (dA 0, 100, .inl fP)), (o 0, .inr (2, mFs o th p0 q0 r0 mu_30 (zP ln at_ er ea (m9 + 1) w9 op_ bw bb bp (ufI none) wr_))), (o 5, .inl (dA 1, 2640, .inr (.inl fA_28))), (o 6, .inl (dA 1, 32, .inr (.inl fM_29)))] := hD
      rcases hq_32 with ⟨P_33, e_33, rfl, hH_33, hS_33⟩ | ⟨e_33, rfl, hE_33⟩
      · have sm_34 : MSm P_33 := cmbS_sm (by omega) sM sN e_33
        refine lv_if_ne (tgt := 133) hx hb dX7_carriesOutLatest_117 (by decide) (fun c_117 => ?_) (fun c_117 => ?_)
        rotate_left
        · exact absurd c_117 (by decide)
        subst hQe
        exact W.vret hx hb hr (fun tz ht hW => ⟨⟨(fA_28, fM_29, mu_30, ufI none), rfl, ⟨by rw [show carB p0 q0 r0 94 kk none M N = (P_33, none) from by simp only [carB, show opnS 94 = 3 from rfl, e_33]]; exact hH_33, by rw [show carB p0 q0 r0 94 kk none M N = (P_33, none) from by simp only [carB, show opnS 94 = 3 from rfl, e_33]], by rw [show carB p0 q0 r0 94 kk none M N = (P_33, none) from by simp only [carB, show opnS 94 = 3 from rfl, e_33]]; exact sm_34, hS_33⟩, B1_at ht (hP.sub [2, 3, 4, 0, 1] rfl) (hD.sub [2, 3, 4, 0, 1] (by decide) rfl) trivial⟩, hS.F ht⟩) hS.2.2 dX7_carriesOutLatest_133
      · have hh_35 := hE_33.hold (k := (32 + m9)) (by omega) hM
        have hh_36 := hE_33.hold (k := (32 + m9 + 1)) (by omega) hN
        refine lv_if_ne (tgt := 133) hx hb dX7_carriesOutLatest_117 (by decide) (fun c_117 => ?_) (fun c_117 => ?_)
        · exact absurd (by decide) c_117
        refine lv_aload_n hx hb dX7_carriesOutLatest_120 rfl (lv_at hl 3 rfl) ?_
        refine lv_aload_n hx hb dX7_carriesOutLatest_121 rfl (lv_at hl 3 rfl) ?_
        refine va_get (D := (dC, dI)) (ci := 2) (v := .ref (o 9)) (C := RX7) (T := TX7) (N := 27) hx hb hts in_X7 hown hK hP 2 rfl rfl 18 (by decide) (hts _ q2024) (fun _ h9 => h9) rfl dX7_carriesOutLatest_122 ?_
        refine lv_aload_n hx hb dX7_carriesOutLatest_125 rfl (lv_at hl 3 rfl) ?_
        refine va_get (D := (dC, dI)) (ci := 2) (v := .int (nI w9)) (C := RX7) (T := TX7) (N := 27) hx hb hts in_X7 hown hK hP 2 rfl rfl 19 (by decide) (hts _ q2025) (fun _ h9 => h9) rfl dX7_carriesOutLatest_126 ?_
        refine a_iald hx hb hK hP 1 0 rfl rfl (by omega) (by omega) dX7_carriesOutLatest_129 ?_
        refine e_i (y := nI kk) (hP9) ?_
        refine va_put (D := (dC, dI)) (ci := 2) (v := .int (nI kk)) (ty := .int) (C := RX7) (T := TX7) (N := 27) hx hb hts in_X7 tyX7 tyX7_ok nmX7 hown hK hP hD hS 2 rfl rfl 24 (by decide) (hts _ q2030) (fun _ h9 => h9) rfl (by decide +kernel) rfl rfl (Nat.le_of_ble_eq_true rfl) dX7_carriesOutLatest_130 (fun H locs hP hD hS => ?_)
        have hP : va_P (dC, dI) vwCl [(o 8, .inl (dA 0, 100, .inl fW)), (o 9, .inl (dA 0, 100, .inl fP)), (o 0, .inr (2, mFs o th p0 q0 r0 mu_30 (zP ln at_ er ea (m9 + 1) w9 op_ bw bb bp (nI kk) wr_))), (o 5, .inl (dA 1, 2640, .inr (.inl fA_28))), (o 6, .inl (dA 1, 32, .inr (.inl fM_29)))] H := hP
        have hD : va_D A [(o 8, .inl (dA 0, 100, .inl fW)), (o 9, .inl (dA 0, 100, .inl fP)), (o 0, .inr (2, mFs o th p0 q0 r0 mu_30 (zP ln at_ er ea (m9 + 1) w9 op_ bw bb bp (nI kk) wr_))), (o 5, .inl (dA 1, 2640, .inr (.inl fA_28))), (o 6, .inl (dA 1, 32, .inr (.inl fM_29)))] := hD
        subst hQe
        exact W.vret hx hb hr (fun tz ht hW => ⟨⟨(fA_28, fM_29, mu_30, nI kk), rfl, ⟨by rw [show carB p0 q0 r0 94 kk none M N = (M, some kk) from by simp only [carB, show opnS 94 = 3 from rfl, e_33]]; exact hE_33.hold (by omega) hM, by rw [show carB p0 q0 r0 94 kk none M N = (M, some kk) from by simp only [carB, show opnS 94 = 3 from rfl, e_33]]; rfl, by rw [show carB p0 q0 r0 94 kk none M N = (M, some kk) from by simp only [carB, show opnS 94 = 3 from rfl, e_33]]; exact sM, fun k9 hk9 => hE_33 k9 hk9.1⟩, B1_at ht (hP.sub [2, 3, 4, 0, 1] rfl) (hD.sub [2, 3, 4, 0, 1] (by decide) rfl) trivial⟩, hS.F ht⟩) hS.2.2 dX7_carriesOutLatest_133
  · refine e_i (y := nI 46) (hW9) ?_
    refine lv_istore_n (lv' := [(2, .int (nI 46)), (1, .int (nI (32 + m9 + 1))), (0, .ref (o 0))]) hx hb dX7_carriesOutLatest_29 rfl hl (by decide) rfl (fun ls hl => ?_)
    refine lv_iload_n hx hb dX7_carriesOutLatest_30 rfl (lv_at hl 0 rfl) ?_
    refine lv_bipush (v := nI 110) hx hb dX7_carriesOutLatest_31 (by decide) ?_
    refine lv_icmp_ne (tgt := 45) hx hb dX7_carriesOutLatest_33 (by decide) (fun c_33 => ?_) (fun c_33 => ?_)
    rotate_left
    · exact absurd c_33 (by decide)
    refine lv_iload_n hx hb dX7_carriesOutLatest_45 rfl (lv_at hl 0 rfl) ?_
    refine lv_bipush (v := nI 43) hx hb dX7_carriesOutLatest_46 (by decide) ?_
    refine lv_icmp_ne (tgt := 55) hx hb dX7_carriesOutLatest_48 (by decide) (fun c_48 => ?_) (fun c_48 => ?_)
    rotate_left
    · exact absurd c_48 (by decide)
    refine lv_iload_n hx hb dX7_carriesOutLatest_55 rfl (lv_at hl 0 rfl) ?_
    refine lv_bipush (v := nI 45) hx hb dX7_carriesOutLatest_56 (by decide) ?_
    refine lv_icmp_ne (tgt := 65) hx hb dX7_carriesOutLatest_58 (by decide) (fun c_58 => ?_) (fun c_58 => ?_)
    rotate_left
    · exact absurd c_58 (by decide)
    refine lv_iload_n hx hb dX7_carriesOutLatest_65 rfl (lv_at hl 0 rfl) ?_
    refine lv_bipush (v := nI 42) hx hb dX7_carriesOutLatest_66 (by decide) ?_
    refine lv_icmp_ne (tgt := 75) hx hb dX7_carriesOutLatest_68 (by decide) (fun c_68 => ?_) (fun c_68 => ?_)
    rotate_left
    · exact absurd c_68 (by decide)
    refine lv_iload_n hx hb dX7_carriesOutLatest_75 rfl (lv_at hl 0 rfl) ?_
    refine lv_bipush (v := nI 94) hx hb dX7_carriesOutLatest_76 (by decide) ?_
    refine lv_icmp_ne (tgt := 85) hx hb dX7_carriesOutLatest_78 (by decide) (fun c_78 => ?_) (fun c_78 => ?_)
    rotate_left
    · exact absurd c_78 (by decide)
    refine lv_iconst (v := nI 4) hx hb dX7_carriesOutLatest_85 (by decide) ?_
    refine lv_istore_n (lv' := [(3, .int (nI 4)), (2, .int (nI 46)), (1, .int (nI (32 + m9 + 1))), (0, .ref (o 0))]) hx hb dX7_carriesOutLatest_86 rfl hl (by decide) rfl (fun ls hl => ?_)
    refine lv_aload_n hx hb dX7_carriesOutLatest_87 rfl (lv_at hl 3 rfl) ?_
    refine lv_dup hx hb dX7_carriesOutLatest_88 rfl ?_
    refine va_get (D := (dC, dI)) (ci := 2) (v := .int (nI (m9 + 2))) (C := RX7) (T := TX7) (N := 27) hx hb hts in_X7 hown hK hP 0 rfl rfl 16 (by decide) (hts _ q2022) (fun _ h9 => h9) rfl dX7_carriesOutLatest_89 ?_
    refine lv_iconst (v := nI 1) hx hb dX7_carriesOutLatest_92 (by decide) ?_
    refine lv_isub hx hb dX7_carriesOutLatest_93 ?_
    refine e_i (y := nI (m9 + 1)) ((pk_sub (by omega)).trans (n_eq (by omega))) ?_
    refine va_put (D := (dC, dI)) (ci := 2) (v := .int (nI (m9 + 1))) (ty := .int) (C := RX7) (T := TX7) (N := 27) hx hb hts in_X7 tyX7 tyX7_ok nmX7 hown hK hP hD hS 0 rfl rfl 16 (by decide) (hts _ q2022) (fun _ h9 => h9) rfl (by decide +kernel) rfl rfl (Nat.le_of_ble_eq_true rfl) dX7_carriesOutLatest_94 (fun H locs hP hD hS => ?_)
    have hP : va_P (dC, dI) vwCl [(o 0, .inr (2, mFs o th p0 q0 r0 mu (zP ln at_ er ea (m9 + 1) w9 op_ bw bb bp (ufI unf) wr_))), (o 5, .inl (dA 1, 2640, .inr (.inl fA))), (o 6, .inl (dA 1, 32, .inr (.inl fM))), (o 8, .inl (dA 0, 100, .inl fW)), (o 9, .inl (dA 0, 100, .inl fP))] H := hP
    have hD : va_D A [(o 0, .inr (2, mFs o th p0 q0 r0 mu (zP ln at_ er ea (m9 + 1) w9 op_ bw bb bp (ufI unf) wr_))), (o 5, .inl (dA 1, 2640, .inr (.inl fA))), (o 6, .inl (dA 1, 32, .inr (.inl fM))), (o 8, .inl (dA 0, 100, .inl fW)), (o 9, .inl (dA 0, 100, .inl fP))] := hD
    refine lv_aload_n hx hb dX7_carriesOutLatest_97 rfl (lv_at hl 3 rfl) ?_
    refine va_get (D := (dC, dI)) (ci := 2) (v := .int (ufI unf)) (C := RX7) (T := TX7) (N := 27) hx hb hts in_X7 hown hK hP 0 rfl rfl 24 (by decide) (hts _ q2030) (fun _ h9 => h9) rfl dX7_carriesOutLatest_98 ?_
    refine lv_iconst (v := (-1)) hx hb dX7_carriesOutLatest_101 (by decide) ?_
    refine lv_icmp_ne (tgt := 133) hx hb dX7_carriesOutLatest_102 (by decide) (fun c_102 => ?_) (fun c_102 => ?_)
    · obtain ⟨ku, rfl⟩ : ∃ k, unf = some k := by
        cases unf with
        | none => exact absurd rfl c_102
        | some k => exact ⟨k, rfl⟩
      subst hQe
      exact W.vret hx hb hr (fun tz ht hW => ⟨⟨(fA, fM, mu, ufI (some ku)), rfl, ⟨hM, rfl, sM, fun k9 hk9 i9 hi9 => rfl⟩, B1_at ht (hP.sub [0, 1, 2, 3, 4] rfl) (hD.sub [0, 1, 2, 3, 4] (by decide) rfl) trivial⟩, hS.F ht⟩) hS.2.2 dX7_carriesOutLatest_133
    · obtain rfl := ufI_n c_102 hu9
      refine lv_aload_n hx hb dX7_carriesOutLatest_105 rfl (lv_at hl 3 rfl) ?_
      refine lv_iload_n hx hb dX7_carriesOutLatest_106 rfl (lv_at hl 0 rfl) ?_
      refine lv_iload_n hx hb dX7_carriesOutLatest_107 rfl (lv_at hl 2 rfl) ?_
      refine lv_iconst (v := nI 1) hx hb dX7_carriesOutLatest_108 (by decide) ?_
      refine lv_isub hx hb dX7_carriesOutLatest_109 ?_
      refine e_i (y := nI (32 + m9)) ((pk_sub (by omega)).trans (n_eq (by omega))) ?_
      refine lv_iload_n hx hb dX7_carriesOutLatest_110 rfl (lv_at hl 2 rfl) ?_
      refine lv_iload_n hx hb dX7_carriesOutLatest_111 rfl (lv_at hl 2 rfl) ?_
      refine lv_iconst (v := nI 1) hx hb dX7_carriesOutLatest_112 (by decide) ?_
      refine lv_isub hx hb dX7_carriesOutLatest_113 ?_
      refine e_i (y := nI (32 + m9)) ((pk_sub (by omega)).trans (n_eq (by omega))) ?_
      have hF9 := va_free (wc := [(o 0, .inr (2, mFs o th p0 q0 r0 mu (zP ln at_ er ea (m9 + 1) w9 op_ bw bb bp (ufI none) wr_))), (o 5, .inl (dA 1, 2640, .inr (.inl fA))), (o 6, .inl (dA 1, 32, .inr (.inl fM)))]) hD hS (fun q h => hA q h) [0, 1, 2] rfl
      refine c_i (wr := [(o 8, .inl (dA 0, 100, .inl fW)), (o 9, .inl (dA 0, 100, .inl fP))]) (va_runV (As := [.int (nI 4), .int (nI (32 + m9)), .int (nI (32 + m9 + 1)), .int (nI (32 + m9))]) (rest := []) ⟨hx, hb, hml, hown, hts⟩ (x7_carriesOut Z (va_A [(o 0, .inr (2, mFs o th p0 q0 r0 mu (zP ln at_ er ea (m9 + 1) w9 op_ bw bb bp (ufI none) wr_))), (o 5, .inl (dA 1, 2640, .inr (.inl fA))), (o 6, .inl (dA 1, 32, .inr (.inl fM)))] H.size) H.size (fun q h => Or.inr h) o th p0 q0 r0 mu (zP ln at_ er ea (m9 + 1) w9 op_ bw bb bp (ufI none) wr_) fA fM 4 (32 + m9) (32 + m9 + 1) (32 + m9) M N (by omega) (by omega) (by omega) (by omega) (by omega) (by omega) (by omega) (by omega) hM hN sM sN) (cwV 4 hts (lw_V q2107 q2109 qs35 q107 q2110) rfl rfl rfl (by decide +kernel) ⟨Nat.le_of_ble_eq_true rfl, Nat.le_of_ble_eq_true rfl⟩) (gP_V (va_recv hK hP (ci := 2) (q0 := 0) rfl rfl) hG hS (fun q _ h => hF9 q h) ⟨rfl, (hP.sub (ws' := [(o 0, .inr (2, mFs o th p0 q0 r0 mu (zP ln at_ er ea (m9 + 1) w9 op_ bw bb bp (ufI none) wr_))), (o 5, .inl (dA 1, 2640, .inr (.inl fA))), (o 6, .inl (dA 1, 32, .inr (.inl fM)))]) [0, 1, 2] rfl), (hD.sub (ws' := [(o 0, .inr (2, mFs o th p0 q0 r0 mu (zP ln at_ er ea (m9 + 1) w9 op_ bw bb bp (ufI none) wr_))), (o 5, .inl (dA 1, 2640, .inr (.inl fA))), (o 6, .inl (dA 1, 32, .inr (.inl fM)))]) [0, 1, 2] (by decide) rfl).self⟩) rfl rfl hl.1 rfl (lv_room (Nat.le_of_ble_eq_true rfl)) dX7_carriesOutLatest_114 ⟨by first | decide | omega, by first | decide | omega⟩) hP hD hS hA [0, 1, 2] [3, 4] rfl rfl (by decide) (by decide) (fun r9 u9 H locs hq hX hz hk hP hD hS => ?_)
      obtain ⟨fA_37, fM_38, mu_39⟩ := u9
      obtain ⟨r_40, rfl⟩ : ∃ z, z = r9 := ⟨_, rfl⟩
      have hq_41 := hq
      try dsimp only at hq_41
      have hP : va_P (dC, dI) vwCl [(o 8, .inl (dA 0, 100, .inl fW)), (o 9, .inl (dA 0, 100, .inl fP)), (o 0, .inr (2, mFs o th p0 q0 r0 mu_39 (zP ln at_ er ea (m9 + 1) w9 op_ bw bb bp (ufI none) wr_))), (o 5, .inl (dA 1, 2640, .inr (.inl fA_37))), (o 6, .inl (dA 1, 32, .inr (.inl fM_38)))] H := hP
      have hD : va_D A [(o 8, .inl (dA 0, 100, .inl fW)), (o 9, .inl (dA 0, 100, .inl fP)), (o 0, .inr (2, mFs o th p0 q0 r0 mu_39 (zP ln at_ er ea (m9 + 1) w9 op_ bw bb bp (ufI none) wr_))), (o 5, .inl (dA 1, 2640, .inr (.inl fA_37))), (o 6, .inl (dA 1, 32, .inr (.inl fM_38)))] := hD
      rcases hq_41 with ⟨P_42, e_42, rfl, hH_42, hS_42⟩ | ⟨e_42, rfl, hE_42⟩
      · have sm_43 : MSm P_42 := cmbS_sm (by omega) sM sN e_42
        refine lv_if_ne (tgt := 133) hx hb dX7_carriesOutLatest_117 (by decide) (fun c_117 => ?_) (fun c_117 => ?_)
        rotate_left
        · exact absurd c_117 (by decide)
        subst hQe
        exact W.vret hx hb hr (fun tz ht hW => ⟨⟨(fA_37, fM_38, mu_39, ufI none), rfl, ⟨by rw [show carB p0 q0 r0 46 kk none M N = (P_42, none) from by simp only [carB, show opnS 46 = 4 from rfl, e_42]]; exact hH_42, by rw [show carB p0 q0 r0 46 kk none M N = (P_42, none) from by simp only [carB, show opnS 46 = 4 from rfl, e_42]], by rw [show carB p0 q0 r0 46 kk none M N = (P_42, none) from by simp only [carB, show opnS 46 = 4 from rfl, e_42]]; exact sm_43, hS_42⟩, B1_at ht (hP.sub [2, 3, 4, 0, 1] rfl) (hD.sub [2, 3, 4, 0, 1] (by decide) rfl) trivial⟩, hS.F ht⟩) hS.2.2 dX7_carriesOutLatest_133
      · have hh_44 := hE_42.hold (k := (32 + m9)) (by omega) hM
        have hh_45 := hE_42.hold (k := (32 + m9 + 1)) (by omega) hN
        refine lv_if_ne (tgt := 133) hx hb dX7_carriesOutLatest_117 (by decide) (fun c_117 => ?_) (fun c_117 => ?_)
        · exact absurd (by decide) c_117
        refine lv_aload_n hx hb dX7_carriesOutLatest_120 rfl (lv_at hl 3 rfl) ?_
        refine lv_aload_n hx hb dX7_carriesOutLatest_121 rfl (lv_at hl 3 rfl) ?_
        refine va_get (D := (dC, dI)) (ci := 2) (v := .ref (o 9)) (C := RX7) (T := TX7) (N := 27) hx hb hts in_X7 hown hK hP 2 rfl rfl 18 (by decide) (hts _ q2024) (fun _ h9 => h9) rfl dX7_carriesOutLatest_122 ?_
        refine lv_aload_n hx hb dX7_carriesOutLatest_125 rfl (lv_at hl 3 rfl) ?_
        refine va_get (D := (dC, dI)) (ci := 2) (v := .int (nI w9)) (C := RX7) (T := TX7) (N := 27) hx hb hts in_X7 hown hK hP 2 rfl rfl 19 (by decide) (hts _ q2025) (fun _ h9 => h9) rfl dX7_carriesOutLatest_126 ?_
        refine a_iald hx hb hK hP 1 0 rfl rfl (by omega) (by omega) dX7_carriesOutLatest_129 ?_
        refine e_i (y := nI kk) (hP9) ?_
        refine va_put (D := (dC, dI)) (ci := 2) (v := .int (nI kk)) (ty := .int) (C := RX7) (T := TX7) (N := 27) hx hb hts in_X7 tyX7 tyX7_ok nmX7 hown hK hP hD hS 2 rfl rfl 24 (by decide) (hts _ q2030) (fun _ h9 => h9) rfl (by decide +kernel) rfl rfl (Nat.le_of_ble_eq_true rfl) dX7_carriesOutLatest_130 (fun H locs hP hD hS => ?_)
        have hP : va_P (dC, dI) vwCl [(o 8, .inl (dA 0, 100, .inl fW)), (o 9, .inl (dA 0, 100, .inl fP)), (o 0, .inr (2, mFs o th p0 q0 r0 mu_39 (zP ln at_ er ea (m9 + 1) w9 op_ bw bb bp (nI kk) wr_))), (o 5, .inl (dA 1, 2640, .inr (.inl fA_37))), (o 6, .inl (dA 1, 32, .inr (.inl fM_38)))] H := hP
        have hD : va_D A [(o 8, .inl (dA 0, 100, .inl fW)), (o 9, .inl (dA 0, 100, .inl fP)), (o 0, .inr (2, mFs o th p0 q0 r0 mu_39 (zP ln at_ er ea (m9 + 1) w9 op_ bw bb bp (nI kk) wr_))), (o 5, .inl (dA 1, 2640, .inr (.inl fA_37))), (o 6, .inl (dA 1, 32, .inr (.inl fM_38)))] := hD
        subst hQe
        exact W.vret hx hb hr (fun tz ht hW => ⟨⟨(fA_37, fM_38, mu_39, nI kk), rfl, ⟨by rw [show carB p0 q0 r0 46 kk none M N = (M, some kk) from by simp only [carB, show opnS 46 = 4 from rfl, e_42]]; exact hE_42.hold (by omega) hM, by rw [show carB p0 q0 r0 46 kk none M N = (M, some kk) from by simp only [carB, show opnS 46 = 4 from rfl, e_42]]; rfl, by rw [show carB p0 q0 r0 46 kk none M N = (M, some kk) from by simp only [carB, show opnS 46 = 4 from rfl, e_42]]; exact sM, fun k9 hk9 => hE_42 k9 hk9.1⟩, B1_at ht (hP.sub [2, 3, 4, 0, 1] rfl) (hD.sub [2, 3, 4, 0, 1] (by decide) rfl) trivial⟩, hS.F ht⟩) hS.2.2 dX7_carriesOutLatest_133
set_option maxHeartbeats 4000000 in
theorem x7_settles {l : Launch} {dC : Nat → ClassId} {dI : Nat → Nat → Nat} {dA : Nat → ClassId} {s0 : State} {b0 : Addr} (Z : Z0 l dC dI dA s0 b0) (A : Nat → Prop) (sz : Nat) (hA : ∀ q : Nat, sz ≤ q → A q) (o : Nat → Nat) (th : Int32) (p0 q0 r0 : Nat) (mu : Int64) (ln at_ : Nat) (er ea : Int32) (op_ : Nat) (bw bb bp : Bool) (wr_ : Nat) (fA fM : Nat → Int64) (fW fP : Nat → Int32) (lv9 : Nat) (ops : List (Nat × Nat)) (S : List MV) (unf : Option Nat) (hn : p0 + q0 + r0 ≤ 5) (hlv : 1 ≤ lv9 ∧ lv9 ≤ 3) (hO : OpsH ops fW fP) (hT : StkH S fA) (hW9 : WfO ops) (hl8 : S.length = bins ops + 1) (hl6 : ops.length ≤ 60) (hl7 : S.length ≤ 45) (hu9 : ∀ k, unf = some k → k < 1000) : Met l yX7_settles (ws_ yX7_settles cX7_settles 2 none) ({ frames := 8, cells := 0, slots := 0, locals := 480 } : Room) (gP [.ref (o 0), .int (nI lv9)] s0 A (fun H => H.size = sz ∧ va_P (dC, dI) vwCl [(o 0, .inr (2, mFs o th p0 q0 r0 mu (zP ln at_ er ea S.length ops.length op_ bw bb bp (ufI unf) wr_))), (o 5, .inl (dA 1, 2640, .inr (.inl fA))), (o 6, .inl (dA 1, 32, .inr (.inl fM))), (o 8, .inl (dA 0, 100, .inl fW)), (o 9, .inl (dA 0, 100, .inl fP))] H ∧ va_D A [(o 0, .inr (2, mFs o th p0 q0 r0 mu (zP ln at_ er ea S.length ops.length op_ bw bb bp (ufI unf) wr_))), (o 5, .inl (dA 1, 2640, .inr (.inl fA))), (o 6, .inl (dA 1, 32, .inr (.inl fM))), (o 8, .inl (dA 0, 100, .inl fW)), (o 9, .inl (dA 0, 100, .inl fP))])) (va_Qv (S := (Nat → Int64) × (Nat → Int64) × Int64 × List (Nat × Nat) × List MV × Option Nat) (fun u => setP p0 q0 r0 lv9 ops (S, unf) = u.2.2.2 ∧ StkH u.2.2.2.2.1 u.1 ∧ Kp fA u.1 (fun k => k < 24)) (B1 (dC, dI) A (fun u => [(o 0, .inr (2, mFs o th p0 q0 r0 u.2.2.1 (zP ln at_ er ea u.2.2.2.2.1.length u.2.2.2.1.length op_ bw bb bp (ufI u.2.2.2.2.2) wr_))), (o 5, .inl (dA 1, 2640, .inr (.inl u.1))), (o 6, .inl (dA 1, 32, .inr (.inl u.2.1))), (o 8, .inl (dA 0, 100, .inl fW)), (o 9, .inl (dA 0, 100, .inl fP))]) (fun _ _ => True)) A) 0 0 A := by
  refine Met.ofW (cc := cX7_settles) (maxL := 2) (ret := none) (by decide) rfl ?_
  intro p e s m args below meth c s₁ B hml hv
  obtain ⟨hav, hG, hsz, hP, hD⟩ := hv
  have hx := B.exec
  have hb := B.bytes
  have hr := B.returns
  have hts := atoms_spec (ws := (ws_ yX7_settles cX7_settles 2 none)) B.pre
  have hts : ∀ w ∈ lw_all, w.before _ s = true := fun w h => hts w (List.mem_cons_of_mem _ h)
  have hown : s.vm.findClass RX7 = some m.cls := findClass_of_methodNamed B.named
  have hlocks := B.notSynchronized
  have hK := hG.K Z
  subst hsz
  have hS : va_S A s.heap s.heap [] := va_S.rf
  have hl := lv_entry ([.ref (o 0), .int (nI lv9)]) (n := 2) (Nat.le_of_ble_eq_true rfl)
  rw [show entryFrame m args 2 = entryFrame m ([.ref (o 0), .int (nI lv9)] : List Value).toArray 2 from by rw [hav], lg_entry_eq]
  generalize (lg_sl ([.ref (o 0), .int (nI lv9)]) ++ List.replicate (2 - (lg_sl ([.ref (o 0), .int (nI lv9)])).length) Slot.unset).toArray = ls at hl ⊢
  have hl : lv_has ls 2 [(0, .ref (o 0)), (1, .int (nI lv9))] := hl
  generalize hQe : MQ below _ _ s _ _ _ = Q
  change W p l e ({ frames := 8, cells := 0, slots := 0, locals := 480 } : Room) s m args below meth c s.heap [] 0 0 Q (F0 m 0 ls [])
  have loop_1 : ∀ (n9_1 : Nat) (opk : List (Nat × Nat)) (Sk : List MV) (uk : Option Nat) (fAk : Nat → Int64) (fMk : Nat → Int64) (muk : Int64) (H : Heap) (locs : List Loc) (ls : Array Slot), opk.length < n9_1 → (OpsH opk fW fP) → (StkH Sk fAk) → (WfO opk) → (Sk.length = bins opk + 1) → (opk.length ≤ 60 ∧ Sk.length ≤ 45) → (setP p0 q0 r0 lv9 opk (Sk, uk) = setP p0 q0 r0 lv9 ops (S, unf)) → (Kp fA fAk (fun k => k < 24)) → (∀ k, uk = some k → k < 1000) → va_P (dC, dI) vwCl [(o 0, .inr (2, mFs o th p0 q0 r0 muk (zP ln at_ er ea Sk.length opk.length op_ bw bb bp (ufI uk) wr_))), (o 5, .inl (dA 1, 2640, .inr (.inl fAk))), (o 6, .inl (dA 1, 32, .inr (.inl fMk))), (o 8, .inl (dA 0, 100, .inl fW)), (o 9, .inl (dA 0, 100, .inl fP))] H → va_D A [(o 0, .inr (2, mFs o th p0 q0 r0 muk (zP ln at_ er ea Sk.length opk.length op_ bw bb bp (ufI uk) wr_))), (o 5, .inl (dA 1, 2640, .inr (.inl fAk))), (o 6, .inl (dA 1, 32, .inr (.inl fMk))), (o 8, .inl (dA 0, 100, .inl fW)), (o 9, .inl (dA 0, 100, .inl fP))] → va_S A s.heap H locs → lv_has ls 2 [(0, .ref (o 0)), (1, .int (nI lv9))] → W p l e ({ frames := 8, cells := 0, slots := 0, locals := 480 } : Room) s m args below meth c H locs 0 0 Q (F0 m 0 ls []) := by
    intro n9_1
    induction n9_1 with
    | zero => intro opk Sk uk fAk fMk muk H locs ls hm_1; exact absurd hm_1 (Nat.not_lt_zero _)
    | succ n9_1 ih_1 =>
      intro opk Sk uk fAk fMk muk H locs ls hm_1 hO9 hT9 hW9 hl8 hl9 hs9 hK9 hu9 hP hD hS hl
      refine lv_aload_n hx hb dX7_settles_0 rfl (lv_at hl 0 rfl) ?_
      refine va_get (D := (dC, dI)) (ci := 2) (v := .int (nI opk.length)) (C := RX7) (T := TX7) (N := 27) hx hb hts in_X7 hown hK hP 0 rfl rfl 19 (by decide) (hts _ q2025) (fun _ h9 => h9) rfl dX7_settles_1 ?_
      refine lv_if_le (tgt := 48) hx hb dX7_settles_4 (by decide) (fun c_4 => ?_) (fun c_4 => ?_)
      · have c_4 : opk.length ≤ 0 := (nI_leI (a := opk.length) (b := 0) (by omega) (by omega)).mp c_4
        obtain rfl : opk = [] := List.length_eq_zero_iff.mp (by omega)
        subst hQe
        exact W.vret hx hb hr (fun tz ht hW => ⟨⟨(fAk, fMk, muk, [], Sk, uk), rfl, ⟨hs9.symm.trans rfl, hT9, hK9⟩, B1_at ht (hP.sub [0, 1, 2, 3, 4] rfl) (hD.sub [0, 1, 2, 3, 4] (by decide) rfl) trivial⟩, hS.F ht⟩) hS.2.2 dX7_settles_48
      · have c_4 : ¬ opk.length ≤ 0 := fun h => c_4 ((nI_leI (a := opk.length) (b := 0) (by omega) (by omega)).mpr h)
        obtain ⟨a9, k9, r9, rfl⟩ : ∃ a k r, opk = (a, k) :: r := by
          match opk, c_4 with
          | [], c => exact absurd (Nat.zero_le _) c
          | (a, k) :: r, _ => exact ⟨a, k, r, rfl⟩
        have hcl8 : (((a9, k9) :: r9) : List (Nat × Nat)).length = r9.length + 1 := rfl
        have hbn : bins r9 ≤ bins ((a9, k9) :: r9) := Nat.le_add_right _ _
        have ha5 := hO9.1
        have hP : va_P (dC, dI) vwCl [(o 0, .inr (2, mFs o th p0 q0 r0 muk (zP ln at_ er ea Sk.length (r9.length + 1) op_ bw bb bp (ufI uk) wr_))), (o 5, .inl (dA 1, 2640, .inr (.inl fAk))), (o 6, .inl (dA 1, 32, .inr (.inl fMk))), (o 8, .inl (dA 0, 100, .inl fW)), (o 9, .inl (dA 0, 100, .inl fP))] H := hP
        have hD : va_D A [(o 0, .inr (2, mFs o th p0 q0 r0 muk (zP ln at_ er ea Sk.length (r9.length + 1) op_ bw bb bp (ufI uk) wr_))), (o 5, .inl (dA 1, 2640, .inr (.inl fAk))), (o 6, .inl (dA 1, 32, .inr (.inl fMk))), (o 8, .inl (dA 0, 100, .inl fW)), (o 9, .inl (dA 0, 100, .inl fP))] := hD
        refine lv_aload_n hx hb dX7_settles_7 rfl (lv_at hl 0 rfl) ?_
        refine va_get (D := (dC, dI)) (ci := 2) (v := .ref (o 8)) (C := RX7) (T := TX7) (N := 27) hx hb hts in_X7 hown hK hP 0 rfl rfl 17 (by decide) (hts _ q2023) (fun _ h9 => h9) rfl dX7_settles_8 ?_
        refine lv_aload_n hx hb dX7_settles_11 rfl (lv_at hl 0 rfl) ?_
        refine va_get (D := (dC, dI)) (ci := 2) (v := .int (nI (r9.length + 1))) (C := RX7) (T := TX7) (N := 27) hx hb hts in_X7 hown hK hP 0 rfl rfl 19 (by decide) (hts _ q2025) (fun _ h9 => h9) rfl dX7_settles_12 ?_
        refine lv_iconst (v := nI 1) hx hb dX7_settles_15 (by decide) ?_
        refine lv_isub hx hb dX7_settles_16 ?_
        refine e_i (y := nI r9.length) ((pk_sub (by omega)).trans (n_eq (by omega))) ?_
        refine a_iald hx hb hK hP 3 0 rfl rfl (by have h1 : (((a9 , k9) :: r9) : List (Nat × Nat)).length = r9.length + 1 := rfl; omega) (by omega) dX7_settles_17 ?_
        refine e_i (y := nI a9) (hO9.2.2.1) ?_
        refine lv_bipush (v := nI 40) hx hb dX7_settles_18 (by decide) ?_
        refine lv_icmp_eq (tgt := 48) hx hb dX7_settles_20 (by decide) (fun c_20 => ?_) (fun c_20 => ?_)
        · have c_20 : a9 = 40 := (nI_eq (a := a9) (b := 40) (by omega) (by omega)).mp c_20
          subst hQe
          exact W.vret hx hb hr (fun tz ht hW => ⟨⟨(fAk, fMk, muk, ((a9, k9) :: r9), Sk, uk), rfl, ⟨hs9.symm.trans (if_neg (fun h => h.1 c_20)), hT9, hK9⟩, B1_at ht (hP.sub [0, 1, 2, 3, 4] rfl) (hD.sub [0, 1, 2, 3, 4] (by decide) rfl) trivial⟩, hS.F ht⟩) hS.2.2 dX7_settles_48
        · have c_20 : ¬ a9 = 40 := fun h => c_20 ((nI_eq (a := a9) (b := 40) (by omega) (by omega)).mpr h)
          have hl3 := lvl3 a9
          have ha6 := hO9.1
          refine lv_aload_n hx hb dX7_settles_23 rfl (lv_at hl 0 rfl) ?_
          refine va_get (D := (dC, dI)) (ci := 2) (v := .ref (o 8)) (C := RX7) (T := TX7) (N := 27) hx hb hts in_X7 hown hK hP 0 rfl rfl 17 (by decide) (hts _ q2023) (fun _ h9 => h9) rfl dX7_settles_24 ?_
          refine lv_aload_n hx hb dX7_settles_27 rfl (lv_at hl 0 rfl) ?_
          refine va_get (D := (dC, dI)) (ci := 2) (v := .int (nI (r9.length + 1))) (C := RX7) (T := TX7) (N := 27) hx hb hts in_X7 hown hK hP 0 rfl rfl 19 (by decide) (hts _ q2025) (fun _ h9 => h9) rfl dX7_settles_28 ?_
          refine lv_iconst (v := nI 1) hx hb dX7_settles_31 (by decide) ?_
          refine lv_isub hx hb dX7_settles_32 ?_
          refine e_i (y := nI r9.length) ((pk_sub (by omega)).trans (n_eq (by omega))) ?_
          refine a_iald hx hb hK hP 3 0 rfl rfl (by have h1 : (((a9 , k9) :: r9) : List (Nat × Nat)).length = r9.length + 1 := rfl; omega) (by omega) dX7_settles_33 ?_
          refine e_i (y := chI a9) (hO9.2.2.1.trans (chI_n hO9.1).symm) ?_
          refine s_i (va_runS (As := [.int (chI a9)]) (rest := []) ⟨hx, hb, hml, hown, hts⟩ (x7_level Z a9 (by omega)) (va_cwS 1 hts (lw_S q2478 q2479 q107 q2480) rfl rfl rfl (by decide +kernel) ⟨Nat.le_of_ble_eq_true rfl, Nat.le_of_ble_eq_true rfl⟩) (gP_S hG hS (fun q _ h => h.elim) trivial) rfl rfl hl.1 rfl (lv_room (Nat.le_of_ble_eq_true rfl)) dX7_settles_34 ⟨by first | decide | omega, by first | decide | omega⟩) ?_
          refine lv_iload_n hx hb dX7_settles_37 rfl (lv_at hl 1 rfl) ?_
          refine lv_icmp_lt (tgt := 48) hx hb dX7_settles_38 (by decide) (fun c_38 => ?_) (fun c_38 => ?_)
          · have c_38 : (lvl a9) < lv9 := (nI_ltI (a := (lvl a9)) (b := lv9) (by omega) (by omega)).mp c_38
            subst hQe
            exact W.vret hx hb hr (fun tz ht hW => ⟨⟨(fAk, fMk, muk, ((a9, k9) :: r9), Sk, uk), rfl, ⟨hs9.symm.trans (if_neg (fun h => absurd h.2 (by omega))), hT9, hK9⟩, B1_at ht (hP.sub [0, 1, 2, 3, 4] rfl) (hD.sub [0, 1, 2, 3, 4] (by decide) rfl) trivial⟩, hS.F ht⟩) hS.2.2 dX7_settles_48
          · have c_38 : ¬ (lvl a9) < lv9 := fun h => c_38 ((nI_ltI (a := (lvl a9)) (b := lv9) (by omega) (by omega)).mpr h)
            refine lv_aload_n hx hb dX7_settles_41 rfl (lv_at hl 0 rfl) ?_
            by_cases h110 : a9 = 110
            · subst h110
              obtain ⟨M9, R9, rfl⟩ : ∃ M R, Sk = M :: R := by
                cases Sk with
                | nil => exact absurd hl8 (by simp)
                | cons M R => exact ⟨M, R, rfl⟩
              have hP : va_P (dC, dI) vwCl [(o 0, .inr (2, mFs o th p0 q0 r0 muk (zP ln at_ er ea (R9.length + 1) (r9.length + 1) op_ bw bb bp (ufI uk) wr_))), (o 5, .inl (dA 1, 2640, .inr (.inl fAk))), (o 6, .inl (dA 1, 32, .inr (.inl fMk))), (o 8, .inl (dA 0, 100, .inl fW)), (o 9, .inl (dA 0, 100, .inl fP))] H := hP
              have hD : va_D A [(o 0, .inr (2, mFs o th p0 q0 r0 muk (zP ln at_ er ea (R9.length + 1) (r9.length + 1) op_ bw bb bp (ufI uk) wr_))), (o 5, .inl (dA 1, 2640, .inr (.inl fAk))), (o 6, .inl (dA 1, 32, .inr (.inl fMk))), (o 8, .inl (dA 0, 100, .inl fW)), (o 9, .inl (dA 0, 100, .inl fP))] := hD
              have hF9 := va_free (wc := [(o 0, .inr (2, mFs o th p0 q0 r0 muk (zP ln at_ er ea (R9.length + 1) (r9.length + 1) op_ bw bb bp (ufI uk) wr_))), (o 5, .inl (dA 1, 2640, .inr (.inl fAk))), (o 6, .inl (dA 1, 32, .inr (.inl fMk))), (o 8, .inl (dA 0, 100, .inl fW)), (o 9, .inl (dA 0, 100, .inl fP))]) hD hS (fun q h => hA q h) [0, 1, 2, 3, 4] rfl
              refine c_v (wr := []) (va_runV (As := []) (rest := []) ⟨hx, hb, hml, hown, hts⟩ (x7_clN Z (va_A [(o 0, .inr (2, mFs o th p0 q0 r0 muk (zP ln at_ er ea (R9.length + 1) (r9.length + 1) op_ bw bb bp (ufI uk) wr_))), (o 5, .inl (dA 1, 2640, .inr (.inl fAk))), (o 6, .inl (dA 1, 32, .inr (.inl fMk))), (o 8, .inl (dA 0, 100, .inl fW)), (o 9, .inl (dA 0, 100, .inl fP))] H.size) H.size (fun q h => Or.inr h) o th p0 q0 r0 muk ln at_ er ea (R9.length + 1) (r9.length + 1) op_ bw bb bp (ufI uk) wr_ fAk fMk fW fP r9.length R9.length M9 hn (by have hl6 : (((110, k9) :: r9) : List (Nat × Nat)).length = r9.length + 1 := rfl; omega) (by have hl6 : (M9 :: R9).length = R9.length + 1 := rfl; omega) hO9.2.2.1 hT9.1 hT9.2.1) (cwV 0 hts (lw_V q2481 q2483 qs89 q107 q2484) rfl rfl rfl (by decide +kernel) ⟨Nat.le_of_ble_eq_true rfl, Nat.le_of_ble_eq_true rfl⟩) (gP_V (va_recv hK hP (ci := 2) (q0 := 0) rfl rfl) hG hS (fun q _ h => hF9 q h) ⟨rfl, (hP.sub (ws' := [(o 0, .inr (2, mFs o th p0 q0 r0 muk (zP ln at_ er ea (R9.length + 1) (r9.length + 1) op_ bw bb bp (ufI uk) wr_))), (o 5, .inl (dA 1, 2640, .inr (.inl fAk))), (o 6, .inl (dA 1, 32, .inr (.inl fMk))), (o 8, .inl (dA 0, 100, .inl fW)), (o 9, .inl (dA 0, 100, .inl fP))]) [0, 1, 2, 3, 4] rfl), (hD.sub (ws' := [(o 0, .inr (2, mFs o th p0 q0 r0 muk (zP ln at_ er ea (R9.length + 1) (r9.length + 1) op_ bw bb bp (ufI uk) wr_))), (o 5, .inl (dA 1, 2640, .inr (.inl fAk))), (o 6, .inl (dA 1, 32, .inr (.inl fMk))), (o 8, .inl (dA 0, 100, .inl fW)), (o 9, .inl (dA 0, 100, .inl fP))]) [0, 1, 2, 3, 4] (by decide) rfl).self⟩) rfl rfl hl.1 rfl (lv_room (Nat.le_of_ble_eq_true rfl)) dX7_settles_42 ⟨by first | decide | omega, by first | decide | omega⟩) hP hD hS hA [0, 1, 2, 3, 4] [] rfl rfl (by decide) (by decide) (fun u9 H locs hq hX hz hk hP hD hS => ?_)
              obtain ⟨fA_2, fM_3, mu_4⟩ := u9
              obtain ⟨hH9, hS9⟩ := hq
              have hP : va_P (dC, dI) vwCl [(o 0, .inr (2, mFs o th p0 q0 r0 mu_4 (zP ln at_ er ea ((trnS 8 p0 q0 r0 M9 :: R9).length) r9.length op_ bw bb bp (ufI uk) wr_))), (o 5, .inl (dA 1, 2640, .inr (.inl fA_2))), (o 6, .inl (dA 1, 32, .inr (.inl fM_3))), (o 8, .inl (dA 0, 100, .inl fW)), (o 9, .inl (dA 0, 100, .inl fP))] H := hP
              have hD : va_D A [(o 0, .inr (2, mFs o th p0 q0 r0 mu_4 (zP ln at_ er ea ((trnS 8 p0 q0 r0 M9 :: R9).length) r9.length op_ bw bb bp (ufI uk) wr_))), (o 5, .inl (dA 1, 2640, .inr (.inl fA_2))), (o 6, .inl (dA 1, 32, .inr (.inl fM_3))), (o 8, .inl (dA 0, 100, .inl fW)), (o 9, .inl (dA 0, 100, .inl fP))] := hD
              have hT8 : StkH (trnS 8 p0 q0 r0 M9 :: R9) fA_2 := ⟨hH9, trnS_sm (op := 8) hn hT9.2.1, StkH.fr hT9.2.2 (fun j hj i hi => hS9 _ (by have := hj.2; omega))⟩
              have hK8 : Kp fA fA_2 (fun k => k < 24) := fun j hj i hi => by
                have hj : j < 24 := hj
                exact (hS9 _ (by omega)).trans (hK9 j hj i hi)
              have hl7 : (trnS 8 p0 q0 r0 M9 :: R9).length = bins r9 + 1 := hl8
              have hs8 : setP p0 q0 r0 lv9 r9 (trnS 8 p0 q0 r0 M9 :: R9, uk) = setP p0 q0 r0 lv9 ops (S, unf) := by
                rw [← hs9]
                exact (if_pos (show (110 : Nat) ≠ 40 ∧ lv9 ≤ lvl 110 from ⟨by decide, by omega⟩)).symm
              have hu8 := hu9
              refine lv_goto (tgt := 0) hx hb dX7_settles_45 (by decide) ?_
              exact ih_1 r9 (trnS 8 p0 q0 r0 M9 :: R9) uk fA_2 fM_3 mu_4 H locs ls ((by omega)) hO9.2.2.2.2 hT8 hW9.2 hl7 (⟨by omega, by have h4 := hl9.2; rw [hl8] at h4; rw [hl7]; exact Nat.le_trans (Nat.succ_le_succ hbn) h4⟩) hs8 hK8 hu8 (hP.sub [0, 1, 2, 3, 4] rfl) (hD.sub [0, 1, 2, 3, 4] (by decide) rfl) hS (lv_sub hl [0, 1] rfl)
            · obtain ⟨N9, M9, R9, rfl⟩ : ∃ N M R, Sk = N :: M :: R := two_of (by rw [hl8]; show 2 ≤ (bins r9 + (if a9 = 40 ∨ a9 = 110 then 0 else 1)) + 1; rw [if_neg (by omega)]; omega)
              have hP : va_P (dC, dI) vwCl [(o 0, .inr (2, mFs o th p0 q0 r0 muk (zP ln at_ er ea (R9.length + 2) (r9.length + 1) op_ bw bb bp (ufI uk) wr_))), (o 5, .inl (dA 1, 2640, .inr (.inl fAk))), (o 6, .inl (dA 1, 32, .inr (.inl fMk))), (o 8, .inl (dA 0, 100, .inl fW)), (o 9, .inl (dA 0, 100, .inl fP))] H := hP
              have hD : va_D A [(o 0, .inr (2, mFs o th p0 q0 r0 muk (zP ln at_ er ea (R9.length + 2) (r9.length + 1) op_ bw bb bp (ufI uk) wr_))), (o 5, .inl (dA 1, 2640, .inr (.inl fAk))), (o 6, .inl (dA 1, 32, .inr (.inl fMk))), (o 8, .inl (dA 0, 100, .inl fW)), (o 9, .inl (dA 0, 100, .inl fP))] := hD
              have hF9 := va_free (wc := [(o 0, .inr (2, mFs o th p0 q0 r0 muk (zP ln at_ er ea (R9.length + 2) (r9.length + 1) op_ bw bb bp (ufI uk) wr_))), (o 5, .inl (dA 1, 2640, .inr (.inl fAk))), (o 6, .inl (dA 1, 32, .inr (.inl fMk))), (o 8, .inl (dA 0, 100, .inl fW)), (o 9, .inl (dA 0, 100, .inl fP))]) hD hS (fun q h => hA q h) [0, 1, 2, 3, 4] rfl
              refine c_v (wr := []) (va_runV (As := []) (rest := []) ⟨hx, hb, hml, hown, hts⟩ (x7_clB Z (va_A [(o 0, .inr (2, mFs o th p0 q0 r0 muk (zP ln at_ er ea (R9.length + 2) (r9.length + 1) op_ bw bb bp (ufI uk) wr_))), (o 5, .inl (dA 1, 2640, .inr (.inl fAk))), (o 6, .inl (dA 1, 32, .inr (.inl fMk))), (o 8, .inl (dA 0, 100, .inl fW)), (o 9, .inl (dA 0, 100, .inl fP))] H.size) H.size (fun q h => Or.inr h) o th p0 q0 r0 muk ln at_ er ea 0 0 op_ bw bb bp wr_ fAk fMk fW fP r9.length R9.length a9 k9 uk M9 N9 hn (by have hl6 : (((a9, k9) :: r9) : List (Nat × Nat)).length = r9.length + 1 := rfl; omega) (by have hl6 : (N9 :: M9 :: R9).length = R9.length + 2 := rfl; omega) (lvl_ops (by omega) h110) hO9.2.2.1 hO9.2.2.2.1 hu9 hT9.2.2.1 hT9.2.2.2.1 hT9.1 hT9.2.1) (cwV 0 hts (lw_V q2481 q2483 qs89 q107 q2484) rfl rfl rfl (by decide +kernel) ⟨Nat.le_of_ble_eq_true rfl, Nat.le_of_ble_eq_true rfl⟩) (gP_V (va_recv hK hP (ci := 2) (q0 := 0) rfl rfl) hG hS (fun q _ h => hF9 q h) ⟨rfl, (hP.sub (ws' := [(o 0, .inr (2, mFs o th p0 q0 r0 muk (zP ln at_ er ea (R9.length + 2) (r9.length + 1) op_ bw bb bp (ufI uk) wr_))), (o 5, .inl (dA 1, 2640, .inr (.inl fAk))), (o 6, .inl (dA 1, 32, .inr (.inl fMk))), (o 8, .inl (dA 0, 100, .inl fW)), (o 9, .inl (dA 0, 100, .inl fP))]) [0, 1, 2, 3, 4] rfl), (hD.sub (ws' := [(o 0, .inr (2, mFs o th p0 q0 r0 muk (zP ln at_ er ea (R9.length + 2) (r9.length + 1) op_ bw bb bp (ufI uk) wr_))), (o 5, .inl (dA 1, 2640, .inr (.inl fAk))), (o 6, .inl (dA 1, 32, .inr (.inl fMk))), (o 8, .inl (dA 0, 100, .inl fW)), (o 9, .inl (dA 0, 100, .inl fP))]) [0, 1, 2, 3, 4] (by decide) rfl).self⟩) rfl rfl hl.1 rfl (lv_room (Nat.le_of_ble_eq_true rfl)) dX7_settles_42 ⟨by first | decide | omega, by first | decide | omega⟩) hP hD hS hA [0, 1, 2, 3, 4] [] rfl rfl (by decide) (by decide) (fun u9 H locs hq hX hz hk hP hD hS => ?_)
              obtain ⟨fA_5, fM_6, mu_7, uf_8⟩ := u9
              obtain ⟨hH9, hU9, hM9, hS9⟩ := hq
              subst hU9
              have hP : va_P (dC, dI) vwCl [(o 0, .inr (2, mFs o th p0 q0 r0 mu_7 (zP ln at_ er ea (((carB p0 q0 r0 a9 k9 uk M9 N9).1 :: R9).length) r9.length op_ bw bb bp (ufI (carB p0 q0 r0 a9 k9 uk M9 N9).2) wr_))), (o 5, .inl (dA 1, 2640, .inr (.inl fA_5))), (o 6, .inl (dA 1, 32, .inr (.inl fM_6))), (o 8, .inl (dA 0, 100, .inl fW)), (o 9, .inl (dA 0, 100, .inl fP))] H := hP
              have hD : va_D A [(o 0, .inr (2, mFs o th p0 q0 r0 mu_7 (zP ln at_ er ea (((carB p0 q0 r0 a9 k9 uk M9 N9).1 :: R9).length) r9.length op_ bw bb bp (ufI (carB p0 q0 r0 a9 k9 uk M9 N9).2) wr_))), (o 5, .inl (dA 1, 2640, .inr (.inl fA_5))), (o 6, .inl (dA 1, 32, .inr (.inl fM_6))), (o 8, .inl (dA 0, 100, .inl fW)), (o 9, .inl (dA 0, 100, .inl fP))] := hD
              have hT8 : StkH ((carB p0 q0 r0 a9 k9 uk M9 N9).1 :: R9) fA_5 := ⟨hH9, hM9, StkH.fr hT9.2.2.2.2 (fun j hj i hi => hS9 j ⟨Or.inr hj.1, by have := hj.2; omega⟩ i hi)⟩
              have hK8 : Kp fA fA_5 (fun k => k < 24) := fun j hj i hi => by
                have hj : j < 24 := hj
                exact (hS9 j ⟨Or.inl hj, by omega⟩ i hi).trans (hK9 j hj i hi)
              have hl7 : ((carB p0 q0 r0 a9 k9 uk M9 N9).1 :: R9).length = bins r9 + 1 := by
                have h1 : R9.length + 1 + 1 = bins r9 + (if a9 = 40 ∨ a9 = 110 then 0 else 1) + 1 := hl8
                rw [if_neg (by omega)] at h1
                show R9.length + 1 = bins r9 + 1
                omega
              have hs8 : setP p0 q0 r0 lv9 r9 ((carB p0 q0 r0 a9 k9 uk M9 N9).1 :: R9, (carB p0 q0 r0 a9 k9 uk M9 N9).2) = setP p0 q0 r0 lv9 ops (S, unf) := by
                rw [← hs9]
                refine Eq.trans ?_ (if_pos (show a9 ≠ 40 ∧ lv9 ≤ lvl a9 from ⟨by omega, by omega⟩)).symm
                congr 1
                exact (if_neg h110).symm
              have hu8 := carB_u (p := p0) (q := q0) (r := r0) (a := a9) (M := M9) (N := N9) hO9.2.1 hu9
              refine lv_goto (tgt := 0) hx hb dX7_settles_45 (by decide) ?_
              exact ih_1 r9 ((carB p0 q0 r0 a9 k9 uk M9 N9).1 :: R9) ((carB p0 q0 r0 a9 k9 uk M9 N9).2) fA_5 fM_6 mu_7 H locs ls ((by omega)) hO9.2.2.2.2 hT8 hW9.2 hl7 (⟨by omega, by have h4 := hl9.2; rw [hl8] at h4; rw [hl7]; exact Nat.le_trans (Nat.succ_le_succ hbn) h4⟩) hs8 hK8 hu8 (hP.sub [0, 1, 2, 3, 4] rfl) (hD.sub [0, 1, 2, 3, 4] (by decide) rfl) hS (lv_sub hl [0, 1] rfl)
  exact loop_1 _ ops S unf fA fM mu s.heap [] ls (Nat.lt_succ_self _) hO hT hW9 hl8 (⟨hl6, hl7⟩) rfl (fun k9 hk9 i9 hi9 => rfl) hu9 hP hD hS (lv_sub hl [0, 1] rfl)
