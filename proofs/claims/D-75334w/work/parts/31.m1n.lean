set_option maxHeartbeats 4000000 in
theorem x7_waitsFor {l : Launch} {dC : Nat → ClassId} {dI : Nat → Nat → Nat} {dA : Nat → ClassId} {s0 : State} {b0 : Addr} (Z : Z0 l dC dI dA s0 b0) (A : Nat → Prop) (sz : Nat) (hA : ∀ q : Nat, sz ≤ q → A q) (o : Nat → Nat) (th : Int32) (p0 q0 r0 : Nat) (mu : Int64) (ln at_ : Nat) (er ea : Int32) (vs wn op_ : Nat) (bw bb bp : Bool) (uf : Int32) (wr_ : Nat) (fW fP : Nat → Int32) (a9 : Nat) (hwn : wn < 100) : Met l yX7_waitsFor (ws_ yX7_waitsFor cX7_waitsFor 2 none) ({ frames := 1, cells := 0, slots := 0, locals := 60 } : Room) (gP [.ref (o 0), .int (nI a9)] s0 A (fun H => H.size = sz ∧ va_P (dC, dI) vwCl [(o 0, .inr (2, mFs o th p0 q0 r0 mu (zP ln at_ er ea vs wn op_ bw bb bp uf wr_))), (o 8, .inl (dA 0, 100, .inl fW)), (o 9, .inl (dA 0, 100, .inl fP))] H ∧ va_D A [(o 0, .inr (2, mFs o th p0 q0 r0 mu (zP ln at_ er ea vs wn op_ bw bb bp uf wr_))), (o 8, .inl (dA 0, 100, .inl fW)), (o 9, .inl (dA 0, 100, .inl fP))])) (va_Qv (S := Unit) (fun _ => True) (B1 (dC, dI) A (fun _ => [(o 0, .inr (2, mFs o th p0 q0 r0 mu (zP ln at_ er ea vs (wn + 1) op_ bw bb bp uf wr_))), (o 8, .inl (dA 0, 100, .inl (upd fW wn (nI a9)))), (o 9, .inl (dA 0, 100, .inl (upd fP wn (nI at_))))]) (fun _ _ => True)) A) 0 0 A := by
  refine Met.ofW (cc := cX7_waitsFor) (maxL := 2) (ret := none) (by decide) rfl ?_
  intro p e s m args below meth c s₁ B hml hv
  obtain ⟨hav, hG, hsz, hP, hD⟩ := hv
  have hx := B.exec
  have hb := B.bytes
  have hr := B.returns
  have hts := atoms_spec (ws := (ws_ yX7_waitsFor cX7_waitsFor 2 none)) B.pre
  have hts : ∀ w ∈ lw_all, w.before _ s = true := fun w h => hts w (List.mem_cons_of_mem _ h)
  have hown : s.vm.findClass RX7 = some m.cls := findClass_of_methodNamed B.named
  have hlocks := B.notSynchronized
  have hK := hG.K Z
  subst hsz
  have hS : va_S A s.heap s.heap [] := va_S.rf
  have hl := lv_entry ([.ref (o 0), .int (nI a9)]) (n := 2) (Nat.le_of_ble_eq_true rfl)
  rw [show entryFrame m args 2 = entryFrame m ([.ref (o 0), .int (nI a9)] : List Value).toArray 2 from by rw [hav], lg_entry_eq]
  generalize (lg_sl ([.ref (o 0), .int (nI a9)]) ++ List.replicate (2 - (lg_sl ([.ref (o 0), .int (nI a9)])).length) Slot.unset).toArray = ls at hl ⊢
  have hl : lv_has ls 2 [(0, .ref (o 0)), (1, .int (nI a9))] := hl
  generalize hQe : MQ below _ _ s _ _ _ = Q
  change W p l e ({ frames := 1, cells := 0, slots := 0, locals := 60 } : Room) s m args below meth c s.heap [] 0 0 Q (F0 m 0 ls [])
  refine lv_aload_n hx hb dX7_waitsFor_0 rfl (lv_at hl 0 rfl) ?_
  refine va_get (D := (dC, dI)) (ci := 2) (v := .ref (o 8)) (C := RX7) (T := TX7) (N := 27) hx hb hts in_X7 hown hK hP 0 rfl rfl 17 (by decide) (hts _ q2023) (fun _ h9 => h9) rfl dX7_waitsFor_1 ?_
  refine lv_aload_n hx hb dX7_waitsFor_4 rfl (lv_at hl 0 rfl) ?_
  refine va_get (D := (dC, dI)) (ci := 2) (v := .int (nI wn)) (C := RX7) (T := TX7) (N := 27) hx hb hts in_X7 hown hK hP 0 rfl rfl 19 (by decide) (hts _ q2025) (fun _ h9 => h9) rfl dX7_waitsFor_5 ?_
  refine lv_iload_n hx hb dX7_waitsFor_8 rfl (lv_at hl 1 rfl) ?_
  refine a_iast hx hb hK hP hD hS 1 0 rfl rfl (by omega) (by omega) dX7_waitsFor_9 (fun H locs hP hD hS => ?_)
  have hP : va_P (dC, dI) vwCl [(o 0, .inr (2, mFs o th p0 q0 r0 mu (zP ln at_ er ea vs wn op_ bw bb bp uf wr_))), (o 8, .inl (dA 0, 100, .inl (upd fW wn (nI a9)))), (o 9, .inl (dA 0, 100, .inl fP))] H := hP
  have hD : va_D A [(o 0, .inr (2, mFs o th p0 q0 r0 mu (zP ln at_ er ea vs wn op_ bw bb bp uf wr_))), (o 8, .inl (dA 0, 100, .inl (upd fW wn (nI a9)))), (o 9, .inl (dA 0, 100, .inl fP))] := hD
  refine lv_aload_n hx hb dX7_waitsFor_10 rfl (lv_at hl 0 rfl) ?_
  refine va_get (D := (dC, dI)) (ci := 2) (v := .ref (o 9)) (C := RX7) (T := TX7) (N := 27) hx hb hts in_X7 hown hK hP 0 rfl rfl 18 (by decide) (hts _ q2024) (fun _ h9 => h9) rfl dX7_waitsFor_11 ?_
  refine lv_aload_n hx hb dX7_waitsFor_14 rfl (lv_at hl 0 rfl) ?_
  refine va_get (D := (dC, dI)) (ci := 2) (v := .int (nI wn)) (C := RX7) (T := TX7) (N := 27) hx hb hts in_X7 hown hK hP 0 rfl rfl 19 (by decide) (hts _ q2025) (fun _ h9 => h9) rfl dX7_waitsFor_15 ?_
  refine lv_aload_n hx hb dX7_waitsFor_18 rfl (lv_at hl 0 rfl) ?_
  refine va_get (D := (dC, dI)) (ci := 2) (v := .int (nI at_)) (C := RX7) (T := TX7) (N := 27) hx hb hts in_X7 hown hK hP 0 rfl rfl 13 (by decide) (hts _ q2019) (fun _ h9 => h9) rfl dX7_waitsFor_19 ?_
  refine a_iast hx hb hK hP hD hS 2 0 rfl rfl (by omega) (by omega) dX7_waitsFor_22 (fun H locs hP hD hS => ?_)
  have hP : va_P (dC, dI) vwCl [(o 0, .inr (2, mFs o th p0 q0 r0 mu (zP ln at_ er ea vs wn op_ bw bb bp uf wr_))), (o 8, .inl (dA 0, 100, .inl (upd fW wn (nI a9)))), (o 9, .inl (dA 0, 100, .inl (upd fP wn (nI at_))))] H := hP
  have hD : va_D A [(o 0, .inr (2, mFs o th p0 q0 r0 mu (zP ln at_ er ea vs wn op_ bw bb bp uf wr_))), (o 8, .inl (dA 0, 100, .inl (upd fW wn (nI a9)))), (o 9, .inl (dA 0, 100, .inl (upd fP wn (nI at_))))] := hD
  refine lv_aload_n hx hb dX7_waitsFor_23 rfl (lv_at hl 0 rfl) ?_
  refine lv_dup hx hb dX7_waitsFor_24 rfl ?_
  refine va_get (D := (dC, dI)) (ci := 2) (v := .int (nI wn)) (C := RX7) (T := TX7) (N := 27) hx hb hts in_X7 hown hK hP 0 rfl rfl 19 (by decide) (hts _ q2025) (fun _ h9 => h9) rfl dX7_waitsFor_25 ?_
  refine lv_iconst (v := nI 1) hx hb dX7_waitsFor_28 (by decide) ?_
  refine lv_iadd hx hb dX7_waitsFor_29 ?_
  refine e_i (y := nI (wn + 1)) (nI_add _ _) ?_
  refine va_put (D := (dC, dI)) (ci := 2) (v := .int (nI (wn + 1))) (ty := .int) (C := RX7) (T := TX7) (N := 27) hx hb hts in_X7 tyX7 tyX7_ok nmX7 hown hK hP hD hS 0 rfl rfl 19 (by decide) (hts _ q2025) (fun _ h9 => h9) rfl (by decide +kernel) rfl rfl (Nat.le_of_ble_eq_true rfl) dX7_waitsFor_30 (fun H locs hP hD hS => ?_)
  have hP : va_P (dC, dI) vwCl [(o 0, .inr (2, mFs o th p0 q0 r0 mu (zP ln at_ er ea vs (wn + 1) op_ bw bb bp uf wr_))), (o 8, .inl (dA 0, 100, .inl (upd fW wn (nI a9)))), (o 9, .inl (dA 0, 100, .inl (upd fP wn (nI at_))))] H := hP
  have hD : va_D A [(o 0, .inr (2, mFs o th p0 q0 r0 mu (zP ln at_ er ea vs (wn + 1) op_ bw bb bp uf wr_))), (o 8, .inl (dA 0, 100, .inl (upd fW wn (nI a9)))), (o 9, .inl (dA 0, 100, .inl (upd fP wn (nI at_))))] := hD
  subst hQe
  exact W.vret hx hb hr (fun tz ht hW => ⟨⟨(), rfl, trivial, B1_at ht (hP.sub [0, 1, 2] rfl) (hD.sub [0, 1, 2] (by decide) rfl) trivial⟩, hS.F ht⟩) hS.2.2 dX7_waitsFor_33
set_option maxHeartbeats 4000000 in
theorem x7_readsNumber {l : Launch} {dC : Nat → ClassId} {dI : Nat → Nat → Nat} {dA : Nat → ClassId} {s0 : State} {b0 : Addr} (Z : Z0 l dC dI dA s0 b0) (A : Nat → Prop) (sz : Nat) (hA : ∀ q : Nat, sz ≤ q → A q) (o : Nat → Nat) (th : Int32) (p0 q0 r0 : Nat) (mu : Int64) (ln at_ : Nat) (er ea : Int32) (vs wn op_ : Nat) (bw bb bp : Bool) (uf : Int32) (wr_ : Nat) (fT : Nat → Int32) (fA : Nat → Int64) (hl9 : ln ≤ 200) (ha9 : at_ ≤ ln) (hvs : vs < 48) : Met l yX7_readsNumber (ws_ yX7_readsNumber cX7_readsNumber 1 none) ({ frames := 4, cells := 0, slots := 0, locals := 240 } : Room) (gP [.ref (o 0)] s0 A (fun H => H.size = sz ∧ va_P (dC, dI) vwCl [(o 0, .inr (2, mFs o th p0 q0 r0 mu (zP ln at_ (nI 0) ea vs wn op_ bw bb bp uf wr_))), (o 5, .inl (dA 1, 2640, .inr (.inl fA))), (o 7, .inl (dA 2, 200, .inl fT))] H ∧ va_D A [(o 0, .inr (2, mFs o th p0 q0 r0 mu (zP ln at_ (nI 0) ea vs wn op_ bw bb bp uf wr_))), (o 5, .inl (dA 1, 2640, .inr (.inl fA))), (o 7, .inl (dA 2, 200, .inl fT))])) (va_Qv (S := Nat → Int64) (fun u => Hold u (32 + vs) (numM (lN (numV (tx fT) ln at_))) ∧ Same fA u (32 + vs)) (B1 (dC, dI) A (fun u => [(o 0, .inr (2, mFs o th p0 q0 r0 mu (zP ln (dE (tx fT) ln at_) (nI (numE (tx fT) ln 0 at_)) (if numE (tx fT) ln 0 at_ = 0 then ea else nI at_) (vs + 1) wn op_ false bb true uf wr_))), (o 5, .inl (dA 1, 2640, .inr (.inl u))), (o 7, .inl (dA 2, 200, .inl fT))]) (fun _ _ => True)) A) 0 0 A := by
  refine Met.ofW (cc := cX7_readsNumber) (maxL := 1) (ret := none) (by decide) rfl ?_
  intro p e s m args below meth c s₁ B hml hv
  obtain ⟨hav, hG, hsz, hP, hD⟩ := hv
  have hx := B.exec
  have hb := B.bytes
  have hr := B.returns
  have hts := atoms_spec (ws := (ws_ yX7_readsNumber cX7_readsNumber 1 none)) B.pre
  have hts : ∀ w ∈ lw_all, w.before _ s = true := fun w h => hts w (List.mem_cons_of_mem _ h)
  have hown : s.vm.findClass RX7 = some m.cls := findClass_of_methodNamed B.named
  have hlocks := B.notSynchronized
  have hK := hG.K Z
  subst hsz
  have hS : va_S A s.heap s.heap [] := va_S.rf
  have hl := lv_entry ([.ref (o 0)]) (n := 1) (Nat.le_of_ble_eq_true rfl)
  rw [show entryFrame m args 1 = entryFrame m ([.ref (o 0)] : List Value).toArray 1 from by rw [hav], lg_entry_eq]
  generalize (lg_sl ([.ref (o 0)]) ++ List.replicate (1 - (lg_sl ([.ref (o 0)])).length) Slot.unset).toArray = ls at hl ⊢
  have hl : lv_has ls 1 [(0, .ref (o 0))] := hl
  generalize hQe : MQ below _ _ s _ _ _ = Q
  change W p l e ({ frames := 4, cells := 0, slots := 0, locals := 240 } : Room) s m args below meth c s.heap [] 0 0 Q (F0 m 0 ls [])
  refine lv_aload_n hx hb dX7_readsNumber_0 rfl (lv_at hl 0 rfl) ?_
  refine lv_bipush (v := nI 32) hx hb dX7_readsNumber_1 (by decide) ?_
  refine lv_aload_n hx hb dX7_readsNumber_3 rfl (lv_at hl 0 rfl) ?_
  refine va_get (D := (dC, dI)) (ci := 2) (v := .int (nI vs)) (C := RX7) (T := TX7) (N := 27) hx hb hts in_X7 hown hK hP 0 rfl rfl 16 (by decide) (hts _ q2022) (fun _ h9 => h9) rfl dX7_readsNumber_4 ?_
  refine lv_iadd hx hb dX7_readsNumber_7 ?_
  refine e_i (y := nI (32 + vs)) (nI_add _ _) ?_
  have hF9 := va_free (wc := [(o 0, .inr (2, mFs o th p0 q0 r0 mu (zP ln at_ (nI 0) ea vs wn op_ bw bb bp uf wr_))), (o 5, .inl (dA 1, 2640, .inr (.inl fA)))]) hD hS (fun q h => hA q h) [0, 1] rfl
  refine c_v (wr := [(o 7, .inl (dA 2, 200, .inl fT))]) (va_runV (As := [.int (nI (32 + vs))]) (rest := []) ⟨hx, hb, hml, hown, hts⟩ (x7_empties Z (va_A [(o 0, .inr (2, mFs o th p0 q0 r0 mu (zP ln at_ (nI 0) ea vs wn op_ bw bb bp uf wr_))), (o 5, .inl (dA 1, 2640, .inr (.inl fA)))] s.heap.size) s.heap.size (fun q h => Or.inr h) o th p0 q0 r0 mu (zP ln at_ (nI 0) ea vs wn op_ bw bb bp uf wr_) fA (fun _ => 0) (32 + vs) (by omega)) (cwV 1 hts (lw_V q2221 q2223 qs54 q107 q2224) rfl rfl rfl (by decide +kernel) ⟨Nat.le_of_ble_eq_true rfl, Nat.le_of_ble_eq_true rfl⟩) (gP_V (va_recv hK hP (ci := 2) (q0 := 0) rfl rfl) hG hS (fun q _ h => hF9 q h) ⟨rfl, (hP.sub (ws' := [(o 0, .inr (2, mFs o th p0 q0 r0 mu (zP ln at_ (nI 0) ea vs wn op_ bw bb bp uf wr_))), (o 5, .inl (dA 1, 2640, .inr (.inl fA)))]) [0, 1] rfl), (hD.sub (ws' := [(o 0, .inr (2, mFs o th p0 q0 r0 mu (zP ln at_ (nI 0) ea vs wn op_ bw bb bp uf wr_))), (o 5, .inl (dA 1, 2640, .inr (.inl fA)))]) [0, 1] (by decide) rfl).self⟩) rfl rfl hl.1 rfl (lv_room (Nat.le_of_ble_eq_true rfl)) dX7_readsNumber_8 ⟨by first | decide | omega, by first | decide | omega⟩) hP hD hS hA [0, 1] [2] rfl rfl (by decide) (by decide) (fun u9 H locs hq hX hz hk hP hD hS => ?_)
  obtain ⟨fA_1, rfl⟩ : ∃ z, z = u9 := ⟨_, rfl⟩
  have hq_2 := hq
  have hP : va_P (dC, dI) vwCl [(o 7, .inl (dA 2, 200, .inl fT)), (o 0, .inr (2, mFs o th p0 q0 r0 mu (zP ln at_ (nI 0) ea vs wn op_ bw bb bp uf wr_))), (o 5, .inl (dA 1, 2640, .inr (.inl fA_1)))] H := hP
  have hD : va_D A [(o 7, .inl (dA 2, 200, .inl fT)), (o 0, .inr (2, mFs o th p0 q0 r0 mu (zP ln at_ (nI 0) ea vs wn op_ bw bb bp uf wr_))), (o 5, .inl (dA 1, 2640, .inr (.inl fA_1)))] := hD
  obtain ⟨hH_k_3, hS_k_3⟩ := hq_2
  refine lv_aload_n hx hb dX7_readsNumber_11 rfl (lv_at hl 0 rfl) ?_
  refine va_get (D := (dC, dI)) (ci := 2) (v := .ref (o 5)) (C := RX7) (T := TX7) (N := 27) hx hb hts in_X7 hown hK hP 1 rfl rfl 8 (by decide) (hts _ q2014) (fun _ h9 => h9) rfl dX7_readsNumber_12 ?_
  refine lv_bipush (v := nI 33) hx hb dX7_readsNumber_15 (by decide) ?_
  refine lv_bipush (v := nI 32) hx hb dX7_readsNumber_17 (by decide) ?_
  refine lv_aload_n hx hb dX7_readsNumber_19 rfl (lv_at hl 0 rfl) ?_
  refine va_get (D := (dC, dI)) (ci := 2) (v := .int (nI vs)) (C := RX7) (T := TX7) (N := 27) hx hb hts in_X7 hown hK hP 1 rfl rfl 16 (by decide) (hts _ q2022) (fun _ h9 => h9) rfl dX7_readsNumber_20 ?_
  refine lv_iadd hx hb dX7_readsNumber_23 ?_
  refine e_i (y := nI (32 + vs)) (nI_add _ _) ?_
  refine lv_imul hx hb dX7_readsNumber_24 ?_
  refine e_i (y := nI (33 * (32 + vs))) (pk_mul _ _) ?_
  refine lv_iconst (v := nI 1) hx hb dX7_readsNumber_25 (by decide) ?_
  refine lv_iadd hx hb dX7_readsNumber_26 ?_
  refine e_i (y := nI (33 * (32 + vs) + 1)) (nI_add _ _) ?_
  refine lv_aload_n hx hb dX7_readsNumber_27 rfl (lv_at hl 0 rfl) ?_
  refine lv_iconst (v := nI 0) hx hb dX7_readsNumber_28 (by decide) ?_
  have hF9 := va_free (wc := [(o 0, .inr (2, mFs o th p0 q0 r0 mu (zP ln at_ (nI 0) ea vs wn op_ bw bb bp uf wr_))), (o 7, .inl (dA 2, 200, .inl fT))]) hD hS (fun q h => hA q h) [1, 0] rfl
  refine c_i (wr := [(o 5, .inl (dA 1, 2640, .inr (.inl fA_1)))]) (va_runV (As := [.int (nI 0)]) (rest := [.int (nI (33 * (32 + vs) + 1)), .ref (o 5)]) ⟨hx, hb, hml, hown, hts⟩ (x7_number Z (va_A [(o 0, .inr (2, mFs o th p0 q0 r0 mu (zP ln at_ (nI 0) ea vs wn op_ bw bb bp uf wr_))), (o 7, .inl (dA 2, 200, .inl fT))] H.size) H.size (fun q h => Or.inr h) o th p0 q0 r0 mu ln at_ (nI 0) ea vs wn op_ bw bb bp uf wr_ fT 0 (by omega) (by omega) (by decide)) (cwV 1 hts (lw_V q2454 q2456 qs83 q107 q2457) rfl rfl rfl (by decide +kernel) ⟨Nat.le_of_ble_eq_true rfl, Nat.le_of_ble_eq_true rfl⟩) (gP_V (va_recv hK hP (ci := 2) (q0 := 1) rfl rfl) hG hS (fun q _ h => hF9 q h) ⟨rfl, (hP.sub (ws' := [(o 0, .inr (2, mFs o th p0 q0 r0 mu (zP ln at_ (nI 0) ea vs wn op_ bw bb bp uf wr_))), (o 7, .inl (dA 2, 200, .inl fT))]) [1, 0] rfl), (hD.sub (ws' := [(o 0, .inr (2, mFs o th p0 q0 r0 mu (zP ln at_ (nI 0) ea vs wn op_ bw bb bp uf wr_))), (o 7, .inl (dA 2, 200, .inl fT))]) [1, 0] (by decide) rfl).self⟩) rfl rfl hl.1 rfl (lv_room (Nat.le_of_ble_eq_true rfl)) dX7_readsNumber_29 ⟨by first | decide | omega, by first | decide | omega⟩) hP hD hS hA [1, 0] [2] rfl rfl (by decide) (by decide) (fun r9 u9 H locs hq hX hz hk hP hD hS => ?_)
  obtain ⟨r_4, rfl⟩ : ∃ z, z = r9 := ⟨_, rfl⟩
  obtain rfl := hq
  have hP : va_P (dC, dI) vwCl [(o 5, .inl (dA 1, 2640, .inr (.inl fA_1))), (o 0, .inr (2, mFs o th p0 q0 r0 mu (zP ln (dE (tx fT) ln at_) (nI (numE (tx fT) ln 0 at_)) (if numE (tx fT) ln 0 at_ = 0 then ea else nI at_) vs wn op_ bw bb bp uf wr_))), (o 7, .inl (dA 2, 200, .inl fT))] H := hP
  have hD : va_D A [(o 5, .inl (dA 1, 2640, .inr (.inl fA_1))), (o 0, .inr (2, mFs o th p0 q0 r0 mu (zP ln (dE (tx fT) ln at_) (nI (numE (tx fT) ln 0 at_)) (if numE (tx fT) ln 0 at_ = 0 then ea else nI at_) vs wn op_ bw bb bp uf wr_))), (o 7, .inl (dA 2, 200, .inl fT))] := hD
  have hdl_32 : dE (tx fT) ln at_ ≤ ln := runE_le (by omega)
  have hnl_32 : numV (tx fT) ln at_ < 100000000 := numV8
  refine lv_i2l (v := (nI (numV (tx fT) ln at_)).toInt64) hx hb dX7_readsNumber_32 rfl ?_
  refine e_l (y := lN (numV (tx fT) ln at_)) (n_i2l (by omega)) ?_
  refine a_last hx hb hK hP hD hS 0 1 rfl rfl (by omega) (by omega) dX7_readsNumber_33 (fun H locs hP hD hS => ?_)
  have hP : va_P (dC, dI) vwCl [(o 5, .inl (dA 1, 2640, .inr (.inl (vp_updL fA_1 (33 * (32 + vs) + 1) (lN (numV (tx fT) ln at_)))))), (o 0, .inr (2, mFs o th p0 q0 r0 mu (zP ln (dE (tx fT) ln at_) (nI (numE (tx fT) ln 0 at_)) (if numE (tx fT) ln 0 at_ = 0 then ea else nI at_) vs wn op_ bw bb bp uf wr_))), (o 7, .inl (dA 2, 200, .inl fT))] H := hP
  have hD : va_D A [(o 5, .inl (dA 1, 2640, .inr (.inl (vp_updL fA_1 (33 * (32 + vs) + 1) (lN (numV (tx fT) ln at_)))))), (o 0, .inr (2, mFs o th p0 q0 r0 mu (zP ln (dE (tx fT) ln at_) (nI (numE (tx fT) ln 0 at_)) (if numE (tx fT) ln 0 at_ = 0 then ea else nI at_) vs wn op_ bw bb bp uf wr_))), (o 7, .inl (dA 2, 200, .inl fT))] := hD
  refine lv_aload_n hx hb dX7_readsNumber_34 rfl (lv_at hl 0 rfl) ?_
  refine lv_dup hx hb dX7_readsNumber_35 rfl ?_
  refine va_get (D := (dC, dI)) (ci := 2) (v := .int (nI vs)) (C := RX7) (T := TX7) (N := 27) hx hb hts in_X7 hown hK hP 1 rfl rfl 16 (by decide) (hts _ q2022) (fun _ h9 => h9) rfl dX7_readsNumber_36 ?_
  refine lv_iconst (v := nI 1) hx hb dX7_readsNumber_39 (by decide) ?_
  refine lv_iadd hx hb dX7_readsNumber_40 ?_
  refine e_i (y := nI (vs + 1)) (nI_add _ _) ?_
  refine va_put (D := (dC, dI)) (ci := 2) (v := .int (nI (vs + 1))) (ty := .int) (C := RX7) (T := TX7) (N := 27) hx hb hts in_X7 tyX7 tyX7_ok nmX7 hown hK hP hD hS 1 rfl rfl 16 (by decide) (hts _ q2022) (fun _ h9 => h9) rfl (by decide +kernel) rfl rfl (Nat.le_of_ble_eq_true rfl) dX7_readsNumber_41 (fun H locs hP hD hS => ?_)
  have hP : va_P (dC, dI) vwCl [(o 5, .inl (dA 1, 2640, .inr (.inl (vp_updL fA_1 (33 * (32 + vs) + 1) (lN (numV (tx fT) ln at_)))))), (o 0, .inr (2, mFs o th p0 q0 r0 mu (zP ln (dE (tx fT) ln at_) (nI (numE (tx fT) ln 0 at_)) (if numE (tx fT) ln 0 at_ = 0 then ea else nI at_) (vs + 1) wn op_ bw bb bp uf wr_))), (o 7, .inl (dA 2, 200, .inl fT))] H := hP
  have hD : va_D A [(o 5, .inl (dA 1, 2640, .inr (.inl (vp_updL fA_1 (33 * (32 + vs) + 1) (lN (numV (tx fT) ln at_)))))), (o 0, .inr (2, mFs o th p0 q0 r0 mu (zP ln (dE (tx fT) ln at_) (nI (numE (tx fT) ln 0 at_)) (if numE (tx fT) ln 0 at_ = 0 then ea else nI at_) (vs + 1) wn op_ bw bb bp uf wr_))), (o 7, .inl (dA 2, 200, .inl fT))] := hD
  refine lv_aload_n hx hb dX7_readsNumber_44 rfl (lv_at hl 0 rfl) ?_
  refine lv_iconst (v := nI 1) hx hb dX7_readsNumber_45 (by decide) ?_
  refine va_put (D := (dC, dI)) (ci := 2) (v := .int (nI 1)) (ty := .boolean) (C := RX7) (T := TX7) (N := 27) hx hb hts in_X7 tyX7 tyX7_ok nmX7 hown hK hP hD hS 1 rfl rfl 23 (by decide) (hts _ q2029) (fun _ h9 => h9) rfl (by decide +kernel) rfl rfl (Nat.le_of_ble_eq_true rfl) dX7_readsNumber_46 (fun H locs hP hD hS => ?_)
  have hP : va_P (dC, dI) vwCl [(o 5, .inl (dA 1, 2640, .inr (.inl (vp_updL fA_1 (33 * (32 + vs) + 1) (lN (numV (tx fT) ln at_)))))), (o 0, .inr (2, mFs o th p0 q0 r0 mu (zP ln (dE (tx fT) ln at_) (nI (numE (tx fT) ln 0 at_)) (if numE (tx fT) ln 0 at_ = 0 then ea else nI at_) (vs + 1) wn op_ bw bb true uf wr_))), (o 7, .inl (dA 2, 200, .inl fT))] H := hP
  have hD : va_D A [(o 5, .inl (dA 1, 2640, .inr (.inl (vp_updL fA_1 (33 * (32 + vs) + 1) (lN (numV (tx fT) ln at_)))))), (o 0, .inr (2, mFs o th p0 q0 r0 mu (zP ln (dE (tx fT) ln at_) (nI (numE (tx fT) ln 0 at_)) (if numE (tx fT) ln 0 at_ = 0 then ea else nI at_) (vs + 1) wn op_ bw bb true uf wr_))), (o 7, .inl (dA 2, 200, .inl fT))] := hD
  refine lv_aload_n hx hb dX7_readsNumber_49 rfl (lv_at hl 0 rfl) ?_
  refine lv_iconst (v := nI 0) hx hb dX7_readsNumber_50 (by decide) ?_
  refine va_put (D := (dC, dI)) (ci := 2) (v := .int (nI 0)) (ty := .boolean) (C := RX7) (T := TX7) (N := 27) hx hb hts in_X7 tyX7 tyX7_ok nmX7 hown hK hP hD hS 1 rfl rfl 21 (by decide) (hts _ q2027) (fun _ h9 => h9) rfl (by decide +kernel) rfl rfl (Nat.le_of_ble_eq_true rfl) dX7_readsNumber_51 (fun H locs hP hD hS => ?_)
  have hP : va_P (dC, dI) vwCl [(o 5, .inl (dA 1, 2640, .inr (.inl (vp_updL fA_1 (33 * (32 + vs) + 1) (lN (numV (tx fT) ln at_)))))), (o 0, .inr (2, mFs o th p0 q0 r0 mu (zP ln (dE (tx fT) ln at_) (nI (numE (tx fT) ln 0 at_)) (if numE (tx fT) ln 0 at_ = 0 then ea else nI at_) (vs + 1) wn op_ false bb true uf wr_))), (o 7, .inl (dA 2, 200, .inl fT))] H := hP
  have hD : va_D A [(o 5, .inl (dA 1, 2640, .inr (.inl (vp_updL fA_1 (33 * (32 + vs) + 1) (lN (numV (tx fT) ln at_)))))), (o 0, .inr (2, mFs o th p0 q0 r0 mu (zP ln (dE (tx fT) ln at_) (nI (numE (tx fT) ln 0 at_)) (if numE (tx fT) ln 0 at_ = 0 then ea else nI at_) (vs + 1) wn op_ false bb true uf wr_))), (o 7, .inl (dA 2, 200, .inl fT))] := hD
  subst hQe
  exact W.vret hx hb hr (fun tz ht hW => ⟨⟨_, rfl, ⟨num_hold hH_k_3, fun j hj => by rw [pk_uLn (by omega)]; exact hS_k_3 j hj⟩, B1_at ht (hP.sub [1, 0, 2] rfl) (hD.sub [1, 0, 2] (by decide) rfl) trivial⟩, hS.F ht⟩) hS.2.2 dX7_readsNumber_54
set_option maxHeartbeats 4000000 in
theorem x7_divides {l : Launch} {dC : Nat → ClassId} {dI : Nat → Nat → Nat} {dA : Nat → ClassId} {s0 : State} {b0 : Addr} (Z : Z0 l dC dI dA s0 b0) (A : Nat → Prop) (sz : Nat) (hA : ∀ q : Nat, sz ≤ q → A q) (o : Nat → Nat) (th : Int32) (p0 q0 r0 : Nat) (mu : Int64) (ln at_ : Nat) (er ea : Int32) (vs wn op_ : Nat) (bw bb bp : Bool) (uf : Int32) (wr_ : Nat) (fT : Nat → Int32) (fA fM : Nat → Int64) (m9 : Nat) (M : MV) (hl9 : ln ≤ 200) (ha9 : at_ < ln) (hvs : m9 < 47) (hM : Hold fA (32 + m9) M) (sM : MSm M) : Met l yX7_divides (ws_ yX7_divides cX7_divides 4 none) ({ frames := 4, cells := 0, slots := 0, locals := 240 } : Room) (gP [.ref (o 0)] s0 A (fun H => H.size = sz ∧ va_P (dC, dI) vwCl [(o 0, .inr (2, mFs o th p0 q0 r0 mu (zP ln at_ (nI 0) ea (m9 + 1) wn op_ bw bb bp uf wr_))), (o 5, .inl (dA 1, 2640, .inr (.inl fA))), (o 6, .inl (dA 1, 32, .inr (.inl fM))), (o 7, .inl (dA 2, 200, .inl fT))] H ∧ va_D A [(o 0, .inr (2, mFs o th p0 q0 r0 mu (zP ln at_ (nI 0) ea (m9 + 1) wn op_ bw bb bp uf wr_))), (o 5, .inl (dA 1, 2640, .inr (.inl fA))), (o 6, .inl (dA 1, 32, .inr (.inl fM))), (o 7, .inl (dA 2, 200, .inl fT))])) (va_Qv (S := (Nat → Int64) × (Nat → Int64) × Int64) (fun u => (numE (tx fT) ln 1 (sk (tx fT) ln (at_ + 1)) = 0 → Hold u.1 (32 + m9) (divM (numV (tx fT) ln (sk (tx fT) ln (at_ + 1))) M)) ∧ (numE (tx fT) ln 1 (sk (tx fT) ln (at_ + 1)) = 0 → MSm (divM (numV (tx fT) ln (sk (tx fT) ln (at_ + 1))) M)) ∧ Same fA u.1 (32 + m9)) (B1 (dC, dI) A (fun u => [(o 0, .inr (2, mFs o th p0 q0 r0 u.2.2 (zP ln (dE (tx fT) ln (sk (tx fT) ln (at_ + 1))) (nI (numE (tx fT) ln 1 (sk (tx fT) ln (at_ + 1)))) (if numE (tx fT) ln 1 (sk (tx fT) ln (at_ + 1)) = 0 then ea else nI (sk (tx fT) ln (at_ + 1))) (m9 + 1) wn op_ bw bb false uf wr_))), (o 5, .inl (dA 1, 2640, .inr (.inl u.1))), (o 6, .inl (dA 1, 32, .inr (.inl u.2.1))), (o 7, .inl (dA 2, 200, .inl fT))]) (fun _ _ => True)) A) 0 0 A := by
  refine Met.ofW (cc := cX7_divides) (maxL := 4) (ret := none) (by decide) rfl ?_
  intro p e s m args below meth c s₁ B hml hv
  obtain ⟨hav, hG, hsz, hP, hD⟩ := hv
  have hx := B.exec
  have hb := B.bytes
  have hr := B.returns
  have hts := atoms_spec (ws := (ws_ yX7_divides cX7_divides 4 none)) B.pre
  have hts : ∀ w ∈ lw_all, w.before _ s = true := fun w h => hts w (List.mem_cons_of_mem _ h)
  have hown : s.vm.findClass RX7 = some m.cls := findClass_of_methodNamed B.named
  have hlocks := B.notSynchronized
  have hK := hG.K Z
  subst hsz
  have hS : va_S A s.heap s.heap [] := va_S.rf
  have hl := lv_entry ([.ref (o 0)]) (n := 4) (Nat.le_of_ble_eq_true rfl)
  rw [show entryFrame m args 4 = entryFrame m ([.ref (o 0)] : List Value).toArray 4 from by rw [hav], lg_entry_eq]
  generalize (lg_sl ([.ref (o 0)]) ++ List.replicate (4 - (lg_sl ([.ref (o 0)])).length) Slot.unset).toArray = ls at hl ⊢
  have hl : lv_has ls 4 [(0, .ref (o 0))] := hl
  generalize hQe : MQ below _ _ s _ _ _ = Q
  change W p l e ({ frames := 4, cells := 0, slots := 0, locals := 240 } : Room) s m args below meth c s.heap [] 0 0 Q (F0 m 0 ls [])
  have hE2 := numE2 (tx fT) ln 1 (sk (tx fT) ln (at_ + 1))
  refine lv_aload_n hx hb dX7_divides_0 rfl (lv_at hl 0 rfl) ?_
  refine lv_dup hx hb dX7_divides_1 rfl ?_
  refine va_get (D := (dC, dI)) (ci := 2) (v := .int (nI at_)) (C := RX7) (T := TX7) (N := 27) hx hb hts in_X7 hown hK hP 0 rfl rfl 13 (by decide) (hts _ q2019) (fun _ h9 => h9) rfl dX7_divides_2 ?_
  refine lv_iconst (v := nI 1) hx hb dX7_divides_5 (by decide) ?_
  refine lv_iadd hx hb dX7_divides_6 ?_
  refine e_i (y := nI (at_ + 1)) (nI_add _ _) ?_
  refine va_put (D := (dC, dI)) (ci := 2) (v := .int (nI (at_ + 1))) (ty := .int) (C := RX7) (T := TX7) (N := 27) hx hb hts in_X7 tyX7 tyX7_ok nmX7 hown hK hP hD hS 0 rfl rfl 13 (by decide) (hts _ q2019) (fun _ h9 => h9) rfl (by decide +kernel) rfl rfl (Nat.le_of_ble_eq_true rfl) dX7_divides_7 (fun H locs hP hD hS => ?_)
  have hP : va_P (dC, dI) vwCl [(o 0, .inr (2, mFs o th p0 q0 r0 mu (zP ln (at_ + 1) (nI 0) ea (m9 + 1) wn op_ bw bb bp uf wr_))), (o 5, .inl (dA 1, 2640, .inr (.inl fA))), (o 6, .inl (dA 1, 32, .inr (.inl fM))), (o 7, .inl (dA 2, 200, .inl fT))] H := hP
  have hD : va_D A [(o 0, .inr (2, mFs o th p0 q0 r0 mu (zP ln (at_ + 1) (nI 0) ea (m9 + 1) wn op_ bw bb bp uf wr_))), (o 5, .inl (dA 1, 2640, .inr (.inl fA))), (o 6, .inl (dA 1, 32, .inr (.inl fM))), (o 7, .inl (dA 2, 200, .inl fT))] := hD
  refine lv_aload_n hx hb dX7_divides_10 rfl (lv_at hl 0 rfl) ?_
  have hF9 := va_free (wc := [(o 0, .inr (2, mFs o th p0 q0 r0 mu (zP ln (at_ + 1) (nI 0) ea (m9 + 1) wn op_ bw bb bp uf wr_))), (o 7, .inl (dA 2, 200, .inl fT))]) hD hS (fun q h => hA q h) [0, 3] rfl
  refine c_i (wr := [(o 5, .inl (dA 1, 2640, .inr (.inl fA))), (o 6, .inl (dA 1, 32, .inr (.inl fM)))]) (va_runV (As := []) (rest := []) ⟨hx, hb, hml, hown, hts⟩ (x7_next Z (va_A [(o 0, .inr (2, mFs o th p0 q0 r0 mu (zP ln (at_ + 1) (nI 0) ea (m9 + 1) wn op_ bw bb bp uf wr_))), (o 7, .inl (dA 2, 200, .inl fT))] H.size) H.size (fun q h => Or.inr h) o th p0 q0 r0 mu ln (at_ + 1) (nI 0) ea (m9 + 1) wn op_ bw bb bp uf wr_ fT (by omega) (by omega)) (cwV 0 hts (lw_V q2434 q2436 qs78 q107 q2437) rfl rfl rfl (by decide +kernel) ⟨Nat.le_of_ble_eq_true rfl, Nat.le_of_ble_eq_true rfl⟩) (gP_V (va_recv hK hP (ci := 2) (q0 := 0) rfl rfl) hG hS (fun q _ h => hF9 q h) ⟨rfl, (hP.sub (ws' := [(o 0, .inr (2, mFs o th p0 q0 r0 mu (zP ln (at_ + 1) (nI 0) ea (m9 + 1) wn op_ bw bb bp uf wr_))), (o 7, .inl (dA 2, 200, .inl fT))]) [0, 3] rfl), (hD.sub (ws' := [(o 0, .inr (2, mFs o th p0 q0 r0 mu (zP ln (at_ + 1) (nI 0) ea (m9 + 1) wn op_ bw bb bp uf wr_))), (o 7, .inl (dA 2, 200, .inl fT))]) [0, 3] (by decide) rfl).self⟩) rfl rfl hl.1 rfl (lv_room (Nat.le_of_ble_eq_true rfl)) dX7_divides_11 ⟨by first | decide | omega, by first | decide | omega⟩) hP hD hS hA [0, 3] [1, 2] rfl rfl (by decide) (by decide) (fun r9 u9 H locs hq hX hz hk hP hD hS => ?_)
  obtain ⟨r_1, rfl⟩ : ∃ z, z = r9 := ⟨_, rfl⟩
  obtain rfl := hq
  have hP : va_P (dC, dI) vwCl [(o 5, .inl (dA 1, 2640, .inr (.inl fA))), (o 6, .inl (dA 1, 32, .inr (.inl fM))), (o 0, .inr (2, mFs o th p0 q0 r0 mu (zP ln (sk (tx fT) ln (at_ + 1)) (nI 0) ea (m9 + 1) wn op_ bw bb bp uf wr_))), (o 7, .inl (dA 2, 200, .inl fT))] H := hP
  have hD : va_D A [(o 5, .inl (dA 1, 2640, .inr (.inl fA))), (o 6, .inl (dA 1, 32, .inr (.inl fM))), (o 0, .inr (2, mFs o th p0 q0 r0 mu (zP ln (sk (tx fT) ln (at_ + 1)) (nI 0) ea (m9 + 1) wn op_ bw bb bp uf wr_))), (o 7, .inl (dA 2, 200, .inl fT))] := hD
  have hsk_3 : sk (tx fT) ln (at_ + 1) ≤ ln := runE_le (by omega)
  refine lv_istore_n (lv' := [(1, .int (chI (ch (tx fT) ln (sk (tx fT) ln (at_ + 1))))), (0, .ref (o 0))]) hx hb dX7_divides_14 rfl hl (by decide) rfl (fun ls hl => ?_)
  refine lv_aload_n hx hb dX7_divides_15 rfl (lv_at hl 1 rfl) ?_
  refine lv_iconst (v := nI 1) hx hb dX7_divides_16 (by decide) ?_
  have hF9 := va_free (wc := [(o 0, .inr (2, mFs o th p0 q0 r0 mu (zP ln (sk (tx fT) ln (at_ + 1)) (nI 0) ea (m9 + 1) wn op_ bw bb bp uf wr_))), (o 7, .inl (dA 2, 200, .inl fT))]) hD hS (fun q h => hA q h) [2, 3] rfl
  refine c_i (wr := [(o 5, .inl (dA 1, 2640, .inr (.inl fA))), (o 6, .inl (dA 1, 32, .inr (.inl fM)))]) (va_runV (As := [.int (nI 1)]) (rest := []) ⟨hx, hb, hml, hown, hts⟩ (x7_number Z (va_A [(o 0, .inr (2, mFs o th p0 q0 r0 mu (zP ln (sk (tx fT) ln (at_ + 1)) (nI 0) ea (m9 + 1) wn op_ bw bb bp uf wr_))), (o 7, .inl (dA 2, 200, .inl fT))] H.size) H.size (fun q h => Or.inr h) o th p0 q0 r0 mu ln (sk (tx fT) ln (at_ + 1)) (nI 0) ea (m9 + 1) wn op_ bw bb bp uf wr_ fT 1 (by omega) (by omega) (by decide)) (cwV 1 hts (lw_V q2454 q2456 qs83 q107 q2457) rfl rfl rfl (by decide +kernel) ⟨Nat.le_of_ble_eq_true rfl, Nat.le_of_ble_eq_true rfl⟩) (gP_V (va_recv hK hP (ci := 2) (q0 := 2) rfl rfl) hG hS (fun q _ h => hF9 q h) ⟨rfl, (hP.sub (ws' := [(o 0, .inr (2, mFs o th p0 q0 r0 mu (zP ln (sk (tx fT) ln (at_ + 1)) (nI 0) ea (m9 + 1) wn op_ bw bb bp uf wr_))), (o 7, .inl (dA 2, 200, .inl fT))]) [2, 3] rfl), (hD.sub (ws' := [(o 0, .inr (2, mFs o th p0 q0 r0 mu (zP ln (sk (tx fT) ln (at_ + 1)) (nI 0) ea (m9 + 1) wn op_ bw bb bp uf wr_))), (o 7, .inl (dA 2, 200, .inl fT))]) [2, 3] (by decide) rfl).self⟩) rfl rfl hl.1 rfl (lv_room (Nat.le_of_ble_eq_true rfl)) dX7_divides_17 ⟨by first | decide | omega, by first | decide | omega⟩) hP hD hS hA [2, 3] [0, 1] rfl rfl (by decide) (by decide) (fun r9 u9 H locs hq hX hz hk hP hD hS => ?_)
  obtain ⟨r_4, rfl⟩ : ∃ z, z = r9 := ⟨_, rfl⟩
  obtain rfl := hq
  have hP : va_P (dC, dI) vwCl [(o 5, .inl (dA 1, 2640, .inr (.inl fA))), (o 6, .inl (dA 1, 32, .inr (.inl fM))), (o 0, .inr (2, mFs o th p0 q0 r0 mu (zP ln (dE (tx fT) ln (sk (tx fT) ln (at_ + 1))) (nI (numE (tx fT) ln 1 (sk (tx fT) ln (at_ + 1)))) (if numE (tx fT) ln 1 (sk (tx fT) ln (at_ + 1)) = 0 then ea else nI (sk (tx fT) ln (at_ + 1))) (m9 + 1) wn op_ bw bb bp uf wr_))), (o 7, .inl (dA 2, 200, .inl fT))] H := hP
  have hD : va_D A [(o 5, .inl (dA 1, 2640, .inr (.inl fA))), (o 6, .inl (dA 1, 32, .inr (.inl fM))), (o 0, .inr (2, mFs o th p0 q0 r0 mu (zP ln (dE (tx fT) ln (sk (tx fT) ln (at_ + 1))) (nI (numE (tx fT) ln 1 (sk (tx fT) ln (at_ + 1)))) (if numE (tx fT) ln 1 (sk (tx fT) ln (at_ + 1)) = 0 then ea else nI (sk (tx fT) ln (at_ + 1))) (m9 + 1) wn op_ bw bb bp uf wr_))), (o 7, .inl (dA 2, 200, .inl fT))] := hD
  have hdl_20 : dE (tx fT) ln (sk (tx fT) ln (at_ + 1)) ≤ ln := runE_le (by omega)
  have hnl_20 : numV (tx fT) ln (sk (tx fT) ln (at_ + 1)) < 100000000 := numV8
  refine lv_istore_n (lv' := [(2, .int (nI (numV (tx fT) ln (sk (tx fT) ln (at_ + 1))))), (1, .int (chI (ch (tx fT) ln (sk (tx fT) ln (at_ + 1))))), (0, .ref (o 0))]) hx hb dX7_divides_20 rfl hl (by decide) rfl (fun ls hl => ?_)
  refine lv_aload_n hx hb dX7_divides_21 rfl (lv_at hl 2 rfl) ?_
  refine va_get (D := (dC, dI)) (ci := 2) (v := .int (nI (numE (tx fT) ln 1 (sk (tx fT) ln (at_ + 1))))) (C := RX7) (T := TX7) (N := 27) hx hb hts in_X7 hown hK hP 2 rfl rfl 14 (by decide) (hts _ q2020) (fun _ h9 => h9) rfl dX7_divides_22 ?_
  refine lv_if_ne (tgt := 54) hx hb dX7_divides_25 (by decide) (fun c_25 => ?_) (fun c_25 => ?_)
  · have c_25 : ¬ (numE (tx fT) ln 1 (sk (tx fT) ln (at_ + 1))) = 0 := fun h => c_25 ((nI_eq (a := (numE (tx fT) ln 1 (sk (tx fT) ln (at_ + 1)))) (b := 0) (by omega) (by omega)).mpr h)
    refine lv_aload_n hx hb dX7_divides_54 rfl (lv_at hl 2 rfl) ?_
    refine lv_iconst (v := nI 0) hx hb dX7_divides_55 (by decide) ?_
    refine va_put (D := (dC, dI)) (ci := 2) (v := .int (nI 0)) (ty := .boolean) (C := RX7) (T := TX7) (N := 27) hx hb hts in_X7 tyX7 tyX7_ok nmX7 hown hK hP hD hS 2 rfl rfl 23 (by decide) (hts _ q2029) (fun _ h9 => h9) rfl (by decide +kernel) rfl rfl (Nat.le_of_ble_eq_true rfl) dX7_divides_56 (fun H locs hP hD hS => ?_)
    have hP : va_P (dC, dI) vwCl [(o 5, .inl (dA 1, 2640, .inr (.inl fA))), (o 6, .inl (dA 1, 32, .inr (.inl fM))), (o 0, .inr (2, mFs o th p0 q0 r0 mu (zP ln (dE (tx fT) ln (sk (tx fT) ln (at_ + 1))) (nI (numE (tx fT) ln 1 (sk (tx fT) ln (at_ + 1)))) (if numE (tx fT) ln 1 (sk (tx fT) ln (at_ + 1)) = 0 then ea else nI (sk (tx fT) ln (at_ + 1))) (m9 + 1) wn op_ bw bb false uf wr_))), (o 7, .inl (dA 2, 200, .inl fT))] H := hP
    have hD : va_D A [(o 5, .inl (dA 1, 2640, .inr (.inl fA))), (o 6, .inl (dA 1, 32, .inr (.inl fM))), (o 0, .inr (2, mFs o th p0 q0 r0 mu (zP ln (dE (tx fT) ln (sk (tx fT) ln (at_ + 1))) (nI (numE (tx fT) ln 1 (sk (tx fT) ln (at_ + 1)))) (if numE (tx fT) ln 1 (sk (tx fT) ln (at_ + 1)) = 0 then ea else nI (sk (tx fT) ln (at_ + 1))) (m9 + 1) wn op_ bw bb false uf wr_))), (o 7, .inl (dA 2, 200, .inl fT))] := hD
    subst hQe
    exact W.vret hx hb hr (fun tz ht hW => ⟨⟨(fA, fM, mu), rfl, ⟨fun h => absurd h c_25, fun h => absurd h c_25, fun j hj => rfl⟩, B1_at ht (hP.sub [2, 0, 1, 3] rfl) (hD.sub [2, 0, 1, 3] (by decide) rfl) trivial⟩, hS.F ht⟩) hS.2.2 dX7_divides_59
  · have c_25 : (numE (tx fT) ln 1 (sk (tx fT) ln (at_ + 1))) = 0 := (nI_eq (a := (numE (tx fT) ln 1 (sk (tx fT) ln (at_ + 1)))) (b := 0) (by omega) (by omega)).mp c_25
    have hv1 := numE_v c_25
    refine lv_aload_n hx hb dX7_divides_28 rfl (lv_at hl 2 rfl) ?_
    refine lv_bipush (v := nI 32) hx hb dX7_divides_29 (by decide) ?_
    refine lv_aload_n hx hb dX7_divides_31 rfl (lv_at hl 2 rfl) ?_
    refine va_get (D := (dC, dI)) (ci := 2) (v := .int (nI (m9 + 1))) (C := RX7) (T := TX7) (N := 27) hx hb hts in_X7 hown hK hP 2 rfl rfl 16 (by decide) (hts _ q2022) (fun _ h9 => h9) rfl dX7_divides_32 ?_
    refine lv_iadd hx hb dX7_divides_35 ?_
    refine e_i (y := nI (32 + (m9 + 1))) (nI_add _ _) ?_
    refine lv_iconst (v := nI 1) hx hb dX7_divides_36 (by decide) ?_
    refine lv_isub hx hb dX7_divides_37 ?_
    refine e_i (y := nI (32 + m9)) ((pk_sub (by omega)).trans (n_eq (by omega))) ?_
    refine lv_lconst (v := 1) hx hb dX7_divides_38 rfl ?_
    refine lv_iload_n hx hb dX7_divides_39 rfl (lv_at hl 0 rfl) ?_
    refine lv_i2l (v := (nI (numV (tx fT) ln (sk (tx fT) ln (at_ + 1)))).toInt64) hx hb dX7_divides_40 rfl ?_
    refine e_l (y := lN (numV (tx fT) ln (sk (tx fT) ln (at_ + 1)))) (n_i2l (by omega)) ?_
    refine lv_bipush (v := nI 32) hx hb dX7_divides_41 (by decide) ?_
    refine lv_aload_n hx hb dX7_divides_43 rfl (lv_at hl 2 rfl) ?_
    refine va_get (D := (dC, dI)) (ci := 2) (v := .int (nI (m9 + 1))) (C := RX7) (T := TX7) (N := 27) hx hb hts in_X7 hown hK hP 2 rfl rfl 16 (by decide) (hts _ q2022) (fun _ h9 => h9) rfl dX7_divides_44 ?_
    refine lv_iadd hx hb dX7_divides_47 ?_
    refine e_i (y := nI (32 + (m9 + 1))) (nI_add _ _) ?_
    refine lv_iconst (v := nI 1) hx hb dX7_divides_48 (by decide) ?_
    refine lv_isub hx hb dX7_divides_49 ?_
    refine e_i (y := nI (32 + m9)) ((pk_sub (by omega)).trans (n_eq (by omega))) ?_
    have hF9 := va_free (wc := [(o 0, .inr (2, mFs o th p0 q0 r0 mu (zP ln (dE (tx fT) ln (sk (tx fT) ln (at_ + 1))) (nI (numE (tx fT) ln 1 (sk (tx fT) ln (at_ + 1)))) (if numE (tx fT) ln 1 (sk (tx fT) ln (at_ + 1)) = 0 then ea else nI (sk (tx fT) ln (at_ + 1))) (m9 + 1) wn op_ bw bb bp uf wr_))), (o 5, .inl (dA 1, 2640, .inr (.inl fA))), (o 6, .inl (dA 1, 32, .inr (.inl fM)))]) hD hS (fun q h => hA q h) [2, 0, 1] rfl
    refine c_i (wr := [(o 7, .inl (dA 2, 200, .inl fT))]) (va_runV (As := [.int (nI (32 + m9)), .long 1, .long (lN (numV (tx fT) ln (sk (tx fT) ln (at_ + 1)))), .int (nI (32 + m9))]) (rest := []) ⟨hx, hb, hml, hown, hts⟩ (x7_scales Z (va_A [(o 0, .inr (2, mFs o th p0 q0 r0 mu (zP ln (dE (tx fT) ln (sk (tx fT) ln (at_ + 1))) (nI (numE (tx fT) ln 1 (sk (tx fT) ln (at_ + 1)))) (if numE (tx fT) ln 1 (sk (tx fT) ln (at_ + 1)) = 0 then ea else nI (sk (tx fT) ln (at_ + 1))) (m9 + 1) wn op_ bw bb bp uf wr_))), (o 5, .inl (dA 1, 2640, .inr (.inl fA))), (o 6, .inl (dA 1, 32, .inr (.inl fM)))] H.size) H.size (fun q h => Or.inr h) o th p0 q0 r0 mu (zP ln (dE (tx fT) ln (sk (tx fT) ln (at_ + 1))) (nI (numE (tx fT) ln 1 (sk (tx fT) ln (at_ + 1)))) (if numE (tx fT) ln 1 (sk (tx fT) ln (at_ + 1)) = 0 then ea else nI (sk (tx fT) ln (at_ + 1))) (m9 + 1) wn op_ bw bb bp uf wr_) fA fM (32 + m9) (32 + m9) 1 (lN (numV (tx fT) ln (sk (tx fT) ln (at_ + 1)))) M (by unfold sm8; decide) (lN_sm (by omega)) (lN_nz (by omega) (by omega)) (by omega) (by omega) hM sM) (cwV 4 hts (lw_V q2176 q2178 qs47 q107 q2179) rfl rfl rfl (by decide +kernel) ⟨Nat.le_of_ble_eq_true rfl, Nat.le_of_ble_eq_true rfl⟩) (gP_V (va_recv hK hP (ci := 2) (q0 := 2) rfl rfl) hG hS (fun q _ h => hF9 q h) ⟨rfl, (hP.sub (ws' := [(o 0, .inr (2, mFs o th p0 q0 r0 mu (zP ln (dE (tx fT) ln (sk (tx fT) ln (at_ + 1))) (nI (numE (tx fT) ln 1 (sk (tx fT) ln (at_ + 1)))) (if numE (tx fT) ln 1 (sk (tx fT) ln (at_ + 1)) = 0 then ea else nI (sk (tx fT) ln (at_ + 1))) (m9 + 1) wn op_ bw bb bp uf wr_))), (o 5, .inl (dA 1, 2640, .inr (.inl fA))), (o 6, .inl (dA 1, 32, .inr (.inl fM)))]) [2, 0, 1] rfl), (hD.sub (ws' := [(o 0, .inr (2, mFs o th p0 q0 r0 mu (zP ln (dE (tx fT) ln (sk (tx fT) ln (at_ + 1))) (nI (numE (tx fT) ln 1 (sk (tx fT) ln (at_ + 1)))) (if numE (tx fT) ln 1 (sk (tx fT) ln (at_ + 1)) = 0 then ea else nI (sk (tx fT) ln (at_ + 1))) (m9 + 1) wn op_ bw bb bp uf wr_))), (o 5, .inl (dA 1, 2640, .inr (.inl fA))), (o 6, .inl (dA 1, 32, .inr (.inl fM)))]) [2, 0, 1] (by decide) rfl).self⟩) rfl rfl hl.1 rfl (lv_room (Nat.le_of_ble_eq_true rfl)) dX7_divides_50 ⟨by first | decide | omega, by first | decide | omega⟩) hP hD hS hA [2, 0, 1] [3] rfl rfl (by decide) (by decide) (fun r9 u9 H locs hq hX hz hk hP hD hS => ?_)
    obtain ⟨fA_5, fM_6, mu_7⟩ := u9
    obtain ⟨r_8, rfl⟩ : ∃ z, z = r9 := ⟨_, rfl⟩
    have hq_9 := hq
    try dsimp only at hq_9
    have hP : va_P (dC, dI) vwCl [(o 7, .inl (dA 2, 200, .inl fT)), (o 0, .inr (2, mFs o th p0 q0 r0 mu_7 (zP ln (dE (tx fT) ln (sk (tx fT) ln (at_ + 1))) (nI (numE (tx fT) ln 1 (sk (tx fT) ln (at_ + 1)))) (if numE (tx fT) ln 1 (sk (tx fT) ln (at_ + 1)) = 0 then ea else nI (sk (tx fT) ln (at_ + 1))) (m9 + 1) wn op_ bw bb bp uf wr_))), (o 5, .inl (dA 1, 2640, .inr (.inl fA_5))), (o 6, .inl (dA 1, 32, .inr (.inl fM_6)))] H := hP
    have hD : va_D A [(o 7, .inl (dA 2, 200, .inl fT)), (o 0, .inr (2, mFs o th p0 q0 r0 mu_7 (zP ln (dE (tx fT) ln (sk (tx fT) ln (at_ + 1))) (nI (numE (tx fT) ln 1 (sk (tx fT) ln (at_ + 1)))) (if numE (tx fT) ln 1 (sk (tx fT) ln (at_ + 1)) = 0 then ea else nI (sk (tx fT) ln (at_ + 1))) (m9 + 1) wn op_ bw bb bp uf wr_))), (o 5, .inl (dA 1, 2640, .inr (.inl fA_5))), (o 6, .inl (dA 1, 32, .inr (.inl fM_6)))] := hD
    rcases hq_9.cases with ⟨P_10, e_10, rfl, hH_10, hS_10⟩ | ⟨e_10, rfl, hE_10⟩
    · have sm_11 : MSm P_10 := scaS_sm (lN_sm (by omega)) (lN_nz (by omega) (by omega)) sM e_10
      refine lv_istore_n (lv' := [(3, .int (nI 1)), (2, .int (nI (numV (tx fT) ln (sk (tx fT) ln (at_ + 1))))), (1, .int (chI (ch (tx fT) ln (sk (tx fT) ln (at_ + 1))))), (0, .ref (o 0))]) hx hb dX7_divides_53 rfl hl (by decide) rfl (fun ls hl => ?_)
      refine lv_aload_n hx hb dX7_divides_54 rfl (lv_at hl 3 rfl) ?_
      refine lv_iconst (v := nI 0) hx hb dX7_divides_55 (by decide) ?_
      refine va_put (D := (dC, dI)) (ci := 2) (v := .int (nI 0)) (ty := .boolean) (C := RX7) (T := TX7) (N := 27) hx hb hts in_X7 tyX7 tyX7_ok nmX7 hown hK hP hD hS 1 rfl rfl 23 (by decide) (hts _ q2029) (fun _ h9 => h9) rfl (by decide +kernel) rfl rfl (Nat.le_of_ble_eq_true rfl) dX7_divides_56 (fun H locs hP hD hS => ?_)
      have hP : va_P (dC, dI) vwCl [(o 7, .inl (dA 2, 200, .inl fT)), (o 0, .inr (2, mFs o th p0 q0 r0 mu_7 (zP ln (dE (tx fT) ln (sk (tx fT) ln (at_ + 1))) (nI (numE (tx fT) ln 1 (sk (tx fT) ln (at_ + 1)))) (if numE (tx fT) ln 1 (sk (tx fT) ln (at_ + 1)) = 0 then ea else nI (sk (tx fT) ln (at_ + 1))) (m9 + 1) wn op_ bw bb false uf wr_))), (o 5, .inl (dA 1, 2640, .inr (.inl fA_5))), (o 6, .inl (dA 1, 32, .inr (.inl fM_6)))] H := hP
      have hD : va_D A [(o 7, .inl (dA 2, 200, .inl fT)), (o 0, .inr (2, mFs o th p0 q0 r0 mu_7 (zP ln (dE (tx fT) ln (sk (tx fT) ln (at_ + 1))) (nI (numE (tx fT) ln 1 (sk (tx fT) ln (at_ + 1)))) (if numE (tx fT) ln 1 (sk (tx fT) ln (at_ + 1)) = 0 then ea else nI (sk (tx fT) ln (at_ + 1))) (m9 + 1) wn op_ bw bb false uf wr_))), (o 5, .inl (dA 1, 2640, .inr (.inl fA_5))), (o 6, .inl (dA 1, 32, .inr (.inl fM_6)))] := hD
      subst hQe
      exact W.vret hx hb hr (fun tz ht hW => ⟨⟨(fA_5, fM_6, mu_7), rfl, ⟨fun _ => by unfold divM; rw [e_10]; exact hH_10, fun _ => by unfold divM; rw [e_10]; exact sm_11, hS_10⟩, B1_at ht (hP.sub [1, 2, 3, 0] rfl) (hD.sub [1, 2, 3, 0] (by decide) rfl) trivial⟩, hS.F ht⟩) hS.2.2 dX7_divides_59
    · have hh_12 : Hold fA_5 (32 + m9) M := by rw [hE_10]; exact hM
      refine lv_istore_n (lv' := [(3, .int (nI 0)), (2, .int (nI (numV (tx fT) ln (sk (tx fT) ln (at_ + 1))))), (1, .int (chI (ch (tx fT) ln (sk (tx fT) ln (at_ + 1))))), (0, .ref (o 0))]) hx hb dX7_divides_53 rfl hl (by decide) rfl (fun ls hl => ?_)
      refine lv_aload_n hx hb dX7_divides_54 rfl (lv_at hl 3 rfl) ?_
      refine lv_iconst (v := nI 0) hx hb dX7_divides_55 (by decide) ?_
      refine va_put (D := (dC, dI)) (ci := 2) (v := .int (nI 0)) (ty := .boolean) (C := RX7) (T := TX7) (N := 27) hx hb hts in_X7 tyX7 tyX7_ok nmX7 hown hK hP hD hS 1 rfl rfl 23 (by decide) (hts _ q2029) (fun _ h9 => h9) rfl (by decide +kernel) rfl rfl (Nat.le_of_ble_eq_true rfl) dX7_divides_56 (fun H locs hP hD hS => ?_)
      have hP : va_P (dC, dI) vwCl [(o 7, .inl (dA 2, 200, .inl fT)), (o 0, .inr (2, mFs o th p0 q0 r0 mu_7 (zP ln (dE (tx fT) ln (sk (tx fT) ln (at_ + 1))) (nI (numE (tx fT) ln 1 (sk (tx fT) ln (at_ + 1)))) (if numE (tx fT) ln 1 (sk (tx fT) ln (at_ + 1)) = 0 then ea else nI (sk (tx fT) ln (at_ + 1))) (m9 + 1) wn op_ bw bb false uf wr_))), (o 5, .inl (dA 1, 2640, .inr (.inl fA_5))), (o 6, .inl (dA 1, 32, .inr (.inl fM_6)))] H := hP
      have hD : va_D A [(o 7, .inl (dA 2, 200, .inl fT)), (o 0, .inr (2, mFs o th p0 q0 r0 mu_7 (zP ln (dE (tx fT) ln (sk (tx fT) ln (at_ + 1))) (nI (numE (tx fT) ln 1 (sk (tx fT) ln (at_ + 1)))) (if numE (tx fT) ln 1 (sk (tx fT) ln (at_ + 1)) = 0 then ea else nI (sk (tx fT) ln (at_ + 1))) (m9 + 1) wn op_ bw bb false uf wr_))), (o 5, .inl (dA 1, 2640, .inr (.inl fA_5))), (o 6, .inl (dA 1, 32, .inr (.inl fM_6)))] := hD
      subst hQe
      exact W.vret hx hb hr (fun tz ht hW => ⟨⟨(fA_5, fM_6, mu_7), rfl, ⟨fun _ => by unfold divM; rw [e_10]; exact hh_12, fun _ => by unfold divM; rw [e_10]; exact sM, fun j hj => by rw [hE_10]⟩, B1_at ht (hP.sub [1, 2, 3, 0] rfl) (hD.sub [1, 2, 3, 0] (by decide) rfl) trivial⟩, hS.F ht⟩) hS.2.2 dX7_divides_59
