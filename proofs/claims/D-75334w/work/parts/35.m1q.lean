theorem ne_cons {α : Type} {L : List α} (h : L ≠ []) : ∃ c w, L = c :: w := by
  cases L with
  | nil => exact absurd rfl h
  | cons c w => exact ⟨c, w, rfl⟩
set_option maxHeartbeats 4000000 in
theorem x7_opens {l : Launch} {dC : Nat → ClassId} {dI : Nat → Nat → Nat} {dA : Nat → ClassId} {s0 : State} {b0 : Addr} (Z : Z0 l dC dI dA s0 b0) (A : Nat → Prop) (sz : Nat) (hA : ∀ q : Nat, sz ≤ q → A q) (o : Nat → Nat) (th : Int32) (p0 q0 r0 : Nat) (mu : Int64) (ln at_ : Nat) (er ea : Int32) (vs wn op_ : Nat) (bw bb bp : Bool) (uf : Int32) (wr_ : Nat) (fW fP : Nat → Int32) (hwn : wn < 100) (hop : op_ < 100) : Met l yX7_opens (ws_ yX7_opens cX7_opens 1 none) ({ frames := 2, cells := 0, slots := 0, locals := 120 } : Room) (gP [.ref (o 0)] s0 A (fun H => H.size = sz ∧ va_P (dC, dI) vwCl [(o 0, .inr (2, mFs o th p0 q0 r0 mu (zP ln at_ (nI 0) ea vs wn op_ bw bb bp uf wr_))), (o 8, .inl (dA 0, 100, .inl fW)), (o 9, .inl (dA 0, 100, .inl fP))] H ∧ va_D A [(o 0, .inr (2, mFs o th p0 q0 r0 mu (zP ln at_ (nI 0) ea vs wn op_ bw bb bp uf wr_))), (o 8, .inl (dA 0, 100, .inl fW)), (o 9, .inl (dA 0, 100, .inl fP))])) (va_Qv (S := Unit) (fun _ => True) (B1 (dC, dI) A (fun _ => [(o 0, .inr (2, mFs o th p0 q0 r0 mu (zP ln (at_ + 1) (if op_ = 12 then nI 4 else nI 0) (if op_ = 12 then nI at_ else ea) vs (wn + 1) (op_ + 1) bw true bp uf wr_))), (o 8, .inl (dA 0, 100, .inl (upd fW wn (nI 40)))), (o 9, .inl (dA 0, 100, .inl (upd fP wn (nI at_))))]) (fun _ _ => True)) A) 0 0 A := by
  refine Met.ofW (cc := cX7_opens) (maxL := 1) (ret := none) (by decide) rfl ?_
  intro p e s m args below meth c s₁ B hml hv
  obtain ⟨hav, hG, hsz, hP, hD⟩ := hv
  have hx := B.exec
  have hb := B.bytes
  have hr := B.returns
  have hts := atoms_spec (ws := (ws_ yX7_opens cX7_opens 1 none)) B.pre
  have hts : ∀ w ∈ lw_all, w.before _ s = true := fun w h => hts w (List.mem_cons_of_mem _ h)
  have hown : s.vm.findClass RX7 = some m.cls := findClass_of_methodNamed B.named
  have hlocks := B.notSynchronized
  have hK := hG.K Z
  subst hsz
  have hS : va_S A s.heap s.heap [] := va_S.rf
  have hl := lv_entry ([.ref (o 0)]) (n := 1) (Nat.le_of_ble_eq_true rfl)
  rw [show entryFrame m args 1 = entryFrame m ([.ref (o 0)] : List Value).toArray 1 from by rw [hav], lg_entry_eq]
  generalize (lg_sl ([.ref (o 0)]) ++ List.replicate (1 - (lg_sl ([.ref (o 0)])).length) Slot.unset).toArray = ls at hl ⊢
  have hl : lv_has ls 1 [(0, .ref (o 0))] := hl
  generalize hQe : MQ below _ _ s _ _ _ = Q
  change W p l e ({ frames := 2, cells := 0, slots := 0, locals := 120 } : Room) s m args below meth c s.heap [] 0 0 Q (F0 m 0 ls [])
  refine lv_aload_n hx hb dX7_opens_0 rfl (lv_at hl 0 rfl) ?_
  refine va_get (D := (dC, dI)) (ci := 2) (v := .int (nI op_)) (C := RX7) (T := TX7) (N := 27) hx hb hts in_X7 hown hK hP 0 rfl rfl 20 (by decide) (hts _ q2026) (fun _ h9 => h9) rfl dX7_opens_1 ?_
  refine lv_bipush (v := nI 12) hx hb dX7_opens_4 (by decide) ?_
  refine lv_icmp_ne (tgt := 18) hx hb dX7_opens_6 (by decide) (fun c_6 => ?_) (fun c_6 => ?_)
  · have c_6 : ¬ op_ = 12 := fun h => c_6 ((nI_eq (a := op_) (b := 12) (by omega) (by omega)).mpr h)
    have hq9 : ¬ op_ = 12 := c_6
    refine lv_aload_n hx hb dX7_opens_18 rfl (lv_at hl 0 rfl) ?_
    refine lv_bipush (v := nI 40) hx hb dX7_opens_19 (by decide) ?_
    have hF9 := va_free (wc := [(o 0, .inr (2, mFs o th p0 q0 r0 mu (zP ln at_ (nI 0) ea vs wn op_ bw bb bp uf wr_))), (o 8, .inl (dA 0, 100, .inl fW)), (o 9, .inl (dA 0, 100, .inl fP))]) hD hS (fun q h => hA q h) [0, 1, 2] rfl
    refine c_v (wr := []) (va_runV (As := [.int (nI 40)]) (rest := []) ⟨hx, hb, hml, hown, hts⟩ (x7_waitsFor Z (va_A [(o 0, .inr (2, mFs o th p0 q0 r0 mu (zP ln at_ (nI 0) ea vs wn op_ bw bb bp uf wr_))), (o 8, .inl (dA 0, 100, .inl fW)), (o 9, .inl (dA 0, 100, .inl fP))] s.heap.size) s.heap.size (fun q h => Or.inr h) o th p0 q0 r0 mu ln at_ (nI 0) ea vs wn op_ bw bb bp uf wr_ fW fP 40 (by omega)) (cwV 1 hts (lw_V q2442 q2444 qs80 q107 q2445) rfl rfl rfl (by decide +kernel) ⟨Nat.le_of_ble_eq_true rfl, Nat.le_of_ble_eq_true rfl⟩) (gP_V (va_recv hK hP (ci := 2) (q0 := 0) rfl rfl) hG hS (fun q _ h => hF9 q h) ⟨rfl, (hP.sub (ws' := [(o 0, .inr (2, mFs o th p0 q0 r0 mu (zP ln at_ (nI 0) ea vs wn op_ bw bb bp uf wr_))), (o 8, .inl (dA 0, 100, .inl fW)), (o 9, .inl (dA 0, 100, .inl fP))]) [0, 1, 2] rfl), (hD.sub (ws' := [(o 0, .inr (2, mFs o th p0 q0 r0 mu (zP ln at_ (nI 0) ea vs wn op_ bw bb bp uf wr_))), (o 8, .inl (dA 0, 100, .inl fW)), (o 9, .inl (dA 0, 100, .inl fP))]) [0, 1, 2] (by decide) rfl).self⟩) rfl rfl hl.1 rfl (lv_room (Nat.le_of_ble_eq_true rfl)) dX7_opens_21 ⟨by first | decide | omega, by first | decide | omega⟩) hP hD hS hA [0, 1, 2] [] rfl rfl (by decide) (by decide) (fun u9 H locs hq hX hz hk hP hD hS => ?_)
    have hP : va_P (dC, dI) vwCl [(o 0, .inr (2, mFs o th p0 q0 r0 mu (zP ln at_ (nI 0) ea vs (wn + 1) op_ bw bb bp uf wr_))), (o 8, .inl (dA 0, 100, .inl (upd fW wn (nI 40)))), (o 9, .inl (dA 0, 100, .inl (upd fP wn (nI at_))))] H := hP
    have hD : va_D A [(o 0, .inr (2, mFs o th p0 q0 r0 mu (zP ln at_ (nI 0) ea vs (wn + 1) op_ bw bb bp uf wr_))), (o 8, .inl (dA 0, 100, .inl (upd fW wn (nI 40)))), (o 9, .inl (dA 0, 100, .inl (upd fP wn (nI at_))))] := hD
    refine lv_aload_n hx hb dX7_opens_24 rfl (lv_at hl 0 rfl) ?_
    refine lv_dup hx hb dX7_opens_25 rfl ?_
    refine va_get (D := (dC, dI)) (ci := 2) (v := .int (nI op_)) (C := RX7) (T := TX7) (N := 27) hx hb hts in_X7 hown hK hP 0 rfl rfl 20 (by decide) (hts _ q2026) (fun _ h9 => h9) rfl dX7_opens_26 ?_
    refine lv_iconst (v := nI 1) hx hb dX7_opens_29 (by decide) ?_
    refine lv_iadd hx hb dX7_opens_30 ?_
    refine e_i (y := nI (op_ + 1)) (nI_add _ _) ?_
    refine va_put (D := (dC, dI)) (ci := 2) (v := .int (nI (op_ + 1))) (ty := .int) (C := RX7) (T := TX7) (N := 27) hx hb hts in_X7 tyX7 tyX7_ok nmX7 hown hK hP hD hS 0 rfl rfl 20 (by decide) (hts _ q2026) (fun _ h9 => h9) rfl (by decide +kernel) rfl rfl (Nat.le_of_ble_eq_true rfl) dX7_opens_31 (fun H locs hP hD hS => ?_)
    have hP : va_P (dC, dI) vwCl [(o 0, .inr (2, mFs o th p0 q0 r0 mu (zP ln at_ (nI 0) ea vs (wn + 1) (op_ + 1) bw bb bp uf wr_))), (o 8, .inl (dA 0, 100, .inl (upd fW wn (nI 40)))), (o 9, .inl (dA 0, 100, .inl (upd fP wn (nI at_))))] H := hP
    have hD : va_D A [(o 0, .inr (2, mFs o th p0 q0 r0 mu (zP ln at_ (nI 0) ea vs (wn + 1) (op_ + 1) bw bb bp uf wr_))), (o 8, .inl (dA 0, 100, .inl (upd fW wn (nI 40)))), (o 9, .inl (dA 0, 100, .inl (upd fP wn (nI at_))))] := hD
    refine lv_aload_n hx hb dX7_opens_34 rfl (lv_at hl 0 rfl) ?_
    refine lv_dup hx hb dX7_opens_35 rfl ?_
    refine va_get (D := (dC, dI)) (ci := 2) (v := .int (nI at_)) (C := RX7) (T := TX7) (N := 27) hx hb hts in_X7 hown hK hP 0 rfl rfl 13 (by decide) (hts _ q2019) (fun _ h9 => h9) rfl dX7_opens_36 ?_
    refine lv_iconst (v := nI 1) hx hb dX7_opens_39 (by decide) ?_
    refine lv_iadd hx hb dX7_opens_40 ?_
    refine e_i (y := nI (at_ + 1)) (nI_add _ _) ?_
    refine va_put (D := (dC, dI)) (ci := 2) (v := .int (nI (at_ + 1))) (ty := .int) (C := RX7) (T := TX7) (N := 27) hx hb hts in_X7 tyX7 tyX7_ok nmX7 hown hK hP hD hS 0 rfl rfl 13 (by decide) (hts _ q2019) (fun _ h9 => h9) rfl (by decide +kernel) rfl rfl (Nat.le_of_ble_eq_true rfl) dX7_opens_41 (fun H locs hP hD hS => ?_)
    have hP : va_P (dC, dI) vwCl [(o 0, .inr (2, mFs o th p0 q0 r0 mu (zP ln (at_ + 1) (nI 0) ea vs (wn + 1) (op_ + 1) bw bb bp uf wr_))), (o 8, .inl (dA 0, 100, .inl (upd fW wn (nI 40)))), (o 9, .inl (dA 0, 100, .inl (upd fP wn (nI at_))))] H := hP
    have hD : va_D A [(o 0, .inr (2, mFs o th p0 q0 r0 mu (zP ln (at_ + 1) (nI 0) ea vs (wn + 1) (op_ + 1) bw bb bp uf wr_))), (o 8, .inl (dA 0, 100, .inl (upd fW wn (nI 40)))), (o 9, .inl (dA 0, 100, .inl (upd fP wn (nI at_))))] := hD
    refine lv_aload_n hx hb dX7_opens_44 rfl (lv_at hl 0 rfl) ?_
    refine lv_iconst (v := nI 1) hx hb dX7_opens_45 (by decide) ?_
    refine va_put (D := (dC, dI)) (ci := 2) (v := .int (nI 1)) (ty := .boolean) (C := RX7) (T := TX7) (N := 27) hx hb hts in_X7 tyX7 tyX7_ok nmX7 hown hK hP hD hS 0 rfl rfl 22 (by decide) (hts _ q2028) (fun _ h9 => h9) rfl (by decide +kernel) rfl rfl (Nat.le_of_ble_eq_true rfl) dX7_opens_46 (fun H locs hP hD hS => ?_)
    have hP : va_P (dC, dI) vwCl [(o 0, .inr (2, mFs o th p0 q0 r0 mu (zP ln (at_ + 1) (nI 0) ea vs (wn + 1) (op_ + 1) bw true bp uf wr_))), (o 8, .inl (dA 0, 100, .inl (upd fW wn (nI 40)))), (o 9, .inl (dA 0, 100, .inl (upd fP wn (nI at_))))] H := hP
    have hD : va_D A [(o 0, .inr (2, mFs o th p0 q0 r0 mu (zP ln (at_ + 1) (nI 0) ea vs (wn + 1) (op_ + 1) bw true bp uf wr_))), (o 8, .inl (dA 0, 100, .inl (upd fW wn (nI 40)))), (o 9, .inl (dA 0, 100, .inl (upd fP wn (nI at_))))] := hD
    subst hQe
    exact W.vret hx hb hr (fun tz ht hW => ⟨⟨(), rfl, trivial, B1_at ht (by rw [if_neg hq9, if_neg hq9]; exact hP.sub [0, 1, 2] rfl) (by rw [if_neg hq9, if_neg hq9]; exact hD.sub [0, 1, 2] (by decide) rfl) trivial⟩, hS.F ht⟩) hS.2.2 dX7_opens_49
  · have c_6 : op_ = 12 := (nI_eq (a := op_) (b := 12) (by omega) (by omega)).mp c_6
    have hq9 : op_ = 12 := c_6
    refine lv_aload_n hx hb dX7_opens_9 rfl (lv_at hl 0 rfl) ?_
    refine lv_iconst (v := nI 4) hx hb dX7_opens_10 (by decide) ?_
    refine lv_aload_n hx hb dX7_opens_11 rfl (lv_at hl 0 rfl) ?_
    refine va_get (D := (dC, dI)) (ci := 2) (v := .int (nI at_)) (C := RX7) (T := TX7) (N := 27) hx hb hts in_X7 hown hK hP 0 rfl rfl 13 (by decide) (hts _ q2019) (fun _ h9 => h9) rfl dX7_opens_12 ?_
    have hF9 := va_free (wc := [(o 0, .inr (2, mFs o th p0 q0 r0 mu (zP ln at_ (nI 0) ea vs wn op_ bw bb bp uf wr_)))]) hD hS (fun q h => hA q h) [0] rfl
    refine c_v (wr := [(o 8, .inl (dA 0, 100, .inl fW)), (o 9, .inl (dA 0, 100, .inl fP))]) (va_runV (As := [.int (nI 4), .int (nI at_)]) (rest := []) ⟨hx, hb, hml, hown, hts⟩ (x7_fails Z (va_A [(o 0, .inr (2, mFs o th p0 q0 r0 mu (zP ln at_ (nI 0) ea vs wn op_ bw bb bp uf wr_)))] s.heap.size) s.heap.size (fun q h => Or.inr h) o th p0 q0 r0 mu ln at_ (nI 0) ea vs wn op_ bw bb bp uf wr_ (nI 4) (nI at_)) (cwV 2 hts (lw_V q2458 q2460 qs84 q107 q2461) rfl rfl rfl (by decide +kernel) ⟨Nat.le_of_ble_eq_true rfl, Nat.le_of_ble_eq_true rfl⟩) (gP_V (va_recv hK hP (ci := 2) (q0 := 0) rfl rfl) hG hS (fun q _ h => hF9 q h) ⟨rfl, (hP.sub (ws' := [(o 0, .inr (2, mFs o th p0 q0 r0 mu (zP ln at_ (nI 0) ea vs wn op_ bw bb bp uf wr_)))]) [0] rfl), (hD.sub (ws' := [(o 0, .inr (2, mFs o th p0 q0 r0 mu (zP ln at_ (nI 0) ea vs wn op_ bw bb bp uf wr_)))]) [0] (by decide) rfl).self⟩) rfl rfl hl.1 rfl (lv_room (Nat.le_of_ble_eq_true rfl)) dX7_opens_15 ⟨by first | decide | omega, by first | decide | omega⟩) hP hD hS hA [0] [1, 2] rfl rfl (by decide) (by decide) (fun u9 H locs hq hX hz hk hP hD hS => ?_)
    have hP : va_P (dC, dI) vwCl [(o 8, .inl (dA 0, 100, .inl fW)), (o 9, .inl (dA 0, 100, .inl fP)), (o 0, .inr (2, mFs o th p0 q0 r0 mu (zP ln at_ (nI 4) (nI at_) vs wn op_ bw bb bp uf wr_)))] H := hP
    have hD : va_D A [(o 8, .inl (dA 0, 100, .inl fW)), (o 9, .inl (dA 0, 100, .inl fP)), (o 0, .inr (2, mFs o th p0 q0 r0 mu (zP ln at_ (nI 4) (nI at_) vs wn op_ bw bb bp uf wr_)))] := hD
    refine lv_aload_n hx hb dX7_opens_18 rfl (lv_at hl 0 rfl) ?_
    refine lv_bipush (v := nI 40) hx hb dX7_opens_19 (by decide) ?_
    have hF9 := va_free (wc := [(o 0, .inr (2, mFs o th p0 q0 r0 mu (zP ln at_ (nI 4) (nI at_) vs wn op_ bw bb bp uf wr_))), (o 8, .inl (dA 0, 100, .inl fW)), (o 9, .inl (dA 0, 100, .inl fP))]) hD hS (fun q h => hA q h) [2, 0, 1] rfl
    refine c_v (wr := []) (va_runV (As := [.int (nI 40)]) (rest := []) ⟨hx, hb, hml, hown, hts⟩ (x7_waitsFor Z (va_A [(o 0, .inr (2, mFs o th p0 q0 r0 mu (zP ln at_ (nI 4) (nI at_) vs wn op_ bw bb bp uf wr_))), (o 8, .inl (dA 0, 100, .inl fW)), (o 9, .inl (dA 0, 100, .inl fP))] H.size) H.size (fun q h => Or.inr h) o th p0 q0 r0 mu ln at_ (nI 4) (nI at_) vs wn op_ bw bb bp uf wr_ fW fP 40 (by omega)) (cwV 1 hts (lw_V q2442 q2444 qs80 q107 q2445) rfl rfl rfl (by decide +kernel) ⟨Nat.le_of_ble_eq_true rfl, Nat.le_of_ble_eq_true rfl⟩) (gP_V (va_recv hK hP (ci := 2) (q0 := 2) rfl rfl) hG hS (fun q _ h => hF9 q h) ⟨rfl, (hP.sub (ws' := [(o 0, .inr (2, mFs o th p0 q0 r0 mu (zP ln at_ (nI 4) (nI at_) vs wn op_ bw bb bp uf wr_))), (o 8, .inl (dA 0, 100, .inl fW)), (o 9, .inl (dA 0, 100, .inl fP))]) [2, 0, 1] rfl), (hD.sub (ws' := [(o 0, .inr (2, mFs o th p0 q0 r0 mu (zP ln at_ (nI 4) (nI at_) vs wn op_ bw bb bp uf wr_))), (o 8, .inl (dA 0, 100, .inl fW)), (o 9, .inl (dA 0, 100, .inl fP))]) [2, 0, 1] (by decide) rfl).self⟩) rfl rfl hl.1 rfl (lv_room (Nat.le_of_ble_eq_true rfl)) dX7_opens_21 ⟨by first | decide | omega, by first | decide | omega⟩) hP hD hS hA [2, 0, 1] [] rfl rfl (by decide) (by decide) (fun u9 H locs hq hX hz hk hP hD hS => ?_)
    have hP : va_P (dC, dI) vwCl [(o 0, .inr (2, mFs o th p0 q0 r0 mu (zP ln at_ (nI 4) (nI at_) vs (wn + 1) op_ bw bb bp uf wr_))), (o 8, .inl (dA 0, 100, .inl (upd fW wn (nI 40)))), (o 9, .inl (dA 0, 100, .inl (upd fP wn (nI at_))))] H := hP
    have hD : va_D A [(o 0, .inr (2, mFs o th p0 q0 r0 mu (zP ln at_ (nI 4) (nI at_) vs (wn + 1) op_ bw bb bp uf wr_))), (o 8, .inl (dA 0, 100, .inl (upd fW wn (nI 40)))), (o 9, .inl (dA 0, 100, .inl (upd fP wn (nI at_))))] := hD
    refine lv_aload_n hx hb dX7_opens_24 rfl (lv_at hl 0 rfl) ?_
    refine lv_dup hx hb dX7_opens_25 rfl ?_
    refine va_get (D := (dC, dI)) (ci := 2) (v := .int (nI op_)) (C := RX7) (T := TX7) (N := 27) hx hb hts in_X7 hown hK hP 0 rfl rfl 20 (by decide) (hts _ q2026) (fun _ h9 => h9) rfl dX7_opens_26 ?_
    refine lv_iconst (v := nI 1) hx hb dX7_opens_29 (by decide) ?_
    refine lv_iadd hx hb dX7_opens_30 ?_
    refine e_i (y := nI (op_ + 1)) (nI_add _ _) ?_
    refine va_put (D := (dC, dI)) (ci := 2) (v := .int (nI (op_ + 1))) (ty := .int) (C := RX7) (T := TX7) (N := 27) hx hb hts in_X7 tyX7 tyX7_ok nmX7 hown hK hP hD hS 0 rfl rfl 20 (by decide) (hts _ q2026) (fun _ h9 => h9) rfl (by decide +kernel) rfl rfl (Nat.le_of_ble_eq_true rfl) dX7_opens_31 (fun H locs hP hD hS => ?_)
    have hP : va_P (dC, dI) vwCl [(o 0, .inr (2, mFs o th p0 q0 r0 mu (zP ln at_ (nI 4) (nI at_) vs (wn + 1) (op_ + 1) bw bb bp uf wr_))), (o 8, .inl (dA 0, 100, .inl (upd fW wn (nI 40)))), (o 9, .inl (dA 0, 100, .inl (upd fP wn (nI at_))))] H := hP
    have hD : va_D A [(o 0, .inr (2, mFs o th p0 q0 r0 mu (zP ln at_ (nI 4) (nI at_) vs (wn + 1) (op_ + 1) bw bb bp uf wr_))), (o 8, .inl (dA 0, 100, .inl (upd fW wn (nI 40)))), (o 9, .inl (dA 0, 100, .inl (upd fP wn (nI at_))))] := hD
    refine lv_aload_n hx hb dX7_opens_34 rfl (lv_at hl 0 rfl) ?_
    refine lv_dup hx hb dX7_opens_35 rfl ?_
    refine va_get (D := (dC, dI)) (ci := 2) (v := .int (nI at_)) (C := RX7) (T := TX7) (N := 27) hx hb hts in_X7 hown hK hP 0 rfl rfl 13 (by decide) (hts _ q2019) (fun _ h9 => h9) rfl dX7_opens_36 ?_
    refine lv_iconst (v := nI 1) hx hb dX7_opens_39 (by decide) ?_
    refine lv_iadd hx hb dX7_opens_40 ?_
    refine e_i (y := nI (at_ + 1)) (nI_add _ _) ?_
    refine va_put (D := (dC, dI)) (ci := 2) (v := .int (nI (at_ + 1))) (ty := .int) (C := RX7) (T := TX7) (N := 27) hx hb hts in_X7 tyX7 tyX7_ok nmX7 hown hK hP hD hS 0 rfl rfl 13 (by decide) (hts _ q2019) (fun _ h9 => h9) rfl (by decide +kernel) rfl rfl (Nat.le_of_ble_eq_true rfl) dX7_opens_41 (fun H locs hP hD hS => ?_)
    have hP : va_P (dC, dI) vwCl [(o 0, .inr (2, mFs o th p0 q0 r0 mu (zP ln (at_ + 1) (nI 4) (nI at_) vs (wn + 1) (op_ + 1) bw bb bp uf wr_))), (o 8, .inl (dA 0, 100, .inl (upd fW wn (nI 40)))), (o 9, .inl (dA 0, 100, .inl (upd fP wn (nI at_))))] H := hP
    have hD : va_D A [(o 0, .inr (2, mFs o th p0 q0 r0 mu (zP ln (at_ + 1) (nI 4) (nI at_) vs (wn + 1) (op_ + 1) bw bb bp uf wr_))), (o 8, .inl (dA 0, 100, .inl (upd fW wn (nI 40)))), (o 9, .inl (dA 0, 100, .inl (upd fP wn (nI at_))))] := hD
    refine lv_aload_n hx hb dX7_opens_44 rfl (lv_at hl 0 rfl) ?_
    refine lv_iconst (v := nI 1) hx hb dX7_opens_45 (by decide) ?_
    refine va_put (D := (dC, dI)) (ci := 2) (v := .int (nI 1)) (ty := .boolean) (C := RX7) (T := TX7) (N := 27) hx hb hts in_X7 tyX7 tyX7_ok nmX7 hown hK hP hD hS 0 rfl rfl 22 (by decide) (hts _ q2028) (fun _ h9 => h9) rfl (by decide +kernel) rfl rfl (Nat.le_of_ble_eq_true rfl) dX7_opens_46 (fun H locs hP hD hS => ?_)
    have hP : va_P (dC, dI) vwCl [(o 0, .inr (2, mFs o th p0 q0 r0 mu (zP ln (at_ + 1) (nI 4) (nI at_) vs (wn + 1) (op_ + 1) bw true bp uf wr_))), (o 8, .inl (dA 0, 100, .inl (upd fW wn (nI 40)))), (o 9, .inl (dA 0, 100, .inl (upd fP wn (nI at_))))] H := hP
    have hD : va_D A [(o 0, .inr (2, mFs o th p0 q0 r0 mu (zP ln (at_ + 1) (nI 4) (nI at_) vs (wn + 1) (op_ + 1) bw true bp uf wr_))), (o 8, .inl (dA 0, 100, .inl (upd fW wn (nI 40)))), (o 9, .inl (dA 0, 100, .inl (upd fP wn (nI at_))))] := hD
    subst hQe
    exact W.vret hx hb hr (fun tz ht hW => ⟨⟨(), rfl, trivial, B1_at ht (by rw [if_pos hq9, if_pos hq9]; exact hP.sub [0, 1, 2] rfl) (by rw [if_pos hq9, if_pos hq9]; exact hD.sub [0, 1, 2] (by decide) rfl) trivial⟩, hS.F ht⟩) hS.2.2 dX7_opens_49
set_option maxHeartbeats 4000000 in
theorem x7_closes {l : Launch} {dC : Nat → ClassId} {dI : Nat → Nat → Nat} {dA : Nat → ClassId} {s0 : State} {b0 : Addr} (Z : Z0 l dC dI dA s0 b0) (A : Nat → Prop) (sz : Nat) (hA : ∀ q : Nat, sz ≤ q → A q) (o : Nat → Nat) (th : Int32) (p0 q0 r0 : Nat) (mu : Int64) (ln at_ : Nat) (er ea : Int32) (op9 : Nat) (bw bb bp : Bool) (wr_ : Nat) (fA fM : Nat → Int64) (fW fP : Nat → Int32) (ops : List (Nat × Nat)) (S : List MV) (unf : Option Nat) (hn : p0 + q0 + r0 ≤ 5) (hop : op9 < 100) (ha9 : at_ < 1000) (hO : OpsH ops fW fP) (hT : StkH S fA) (hW9 : WfO ops) (hl8 : S.length = bins ops + 1) (hl6 : ops.length ≤ 60) (hl7 : S.length ≤ 45) (hu9 : ∀ k, unf = some k → k < 1000) (hne : ∀ a b c, setP p0 q0 r0 1 ops (S, unf) = (a, b, c) → a ≠ []) : Met l yX7_closes (ws_ yX7_closes cX7_closes 1 none) ({ frames := 9, cells := 0, slots := 0, locals := 540 } : Room) (gP [.ref (o 0)] s0 A (fun H => H.size = sz ∧ va_P (dC, dI) vwCl [(o 0, .inr (2, mFs o th p0 q0 r0 mu (zP ln at_ er ea S.length ops.length (op9 + 1) bw bb bp (ufI unf) wr_))), (o 5, .inl (dA 1, 2640, .inr (.inl fA))), (o 6, .inl (dA 1, 32, .inr (.inl fM))), (o 8, .inl (dA 0, 100, .inl fW)), (o 9, .inl (dA 0, 100, .inl fP))] H ∧ va_D A [(o 0, .inr (2, mFs o th p0 q0 r0 mu (zP ln at_ er ea S.length ops.length (op9 + 1) bw bb bp (ufI unf) wr_))), (o 5, .inl (dA 1, 2640, .inr (.inl fA))), (o 6, .inl (dA 1, 32, .inr (.inl fM))), (o 8, .inl (dA 0, 100, .inl fW)), (o 9, .inl (dA 0, 100, .inl fP))])) (va_Qv (S := (Nat → Int64) × (Nat → Int64) × Int64 × List (Nat × Nat) × List MV × Option Nat) (fun u => setP p0 q0 r0 1 ops (S, unf) = u.2.2.2 ∧ StkH u.2.2.2.2.1 u.1 ∧ Kp fA u.1 (fun k => k < 24)) (B1 (dC, dI) A (fun u => [(o 0, .inr (2, mFs o th p0 q0 r0 u.2.2.1 (zP ln (at_ + 1) er ea u.2.2.2.2.1.length u.2.2.2.1.tail.length op9 bw bb false (ufI u.2.2.2.2.2) wr_))), (o 5, .inl (dA 1, 2640, .inr (.inl u.1))), (o 6, .inl (dA 1, 32, .inr (.inl u.2.1))), (o 8, .inl (dA 0, 100, .inl fW)), (o 9, .inl (dA 0, 100, .inl fP))]) (fun _ _ => True)) A) 0 0 A := by
  refine Met.ofW (cc := cX7_closes) (maxL := 1) (ret := none) (by decide) rfl ?_
  intro p e s m args below meth c s₁ B hml hv
  obtain ⟨hav, hG, hsz, hP, hD⟩ := hv
  have hx := B.exec
  have hb := B.bytes
  have hr := B.returns
  have hts := atoms_spec (ws := (ws_ yX7_closes cX7_closes 1 none)) B.pre
  have hts : ∀ w ∈ lw_all, w.before _ s = true := fun w h => hts w (List.mem_cons_of_mem _ h)
  have hown : s.vm.findClass RX7 = some m.cls := findClass_of_methodNamed B.named
  have hlocks := B.notSynchronized
  have hK := hG.K Z
  subst hsz
  have hS : va_S A s.heap s.heap [] := va_S.rf
  have hl := lv_entry ([.ref (o 0)]) (n := 1) (Nat.le_of_ble_eq_true rfl)
  rw [show entryFrame m args 1 = entryFrame m ([.ref (o 0)] : List Value).toArray 1 from by rw [hav], lg_entry_eq]
  generalize (lg_sl ([.ref (o 0)]) ++ List.replicate (1 - (lg_sl ([.ref (o 0)])).length) Slot.unset).toArray = ls at hl ⊢
  have hl : lv_has ls 1 [(0, .ref (o 0))] := hl
  generalize hQe : MQ below _ _ s _ _ _ = Q
  change W p l e ({ frames := 9, cells := 0, slots := 0, locals := 540 } : Room) s m args below meth c s.heap [] 0 0 Q (F0 m 0 ls [])
  refine lv_aload_n hx hb dX7_closes_0 rfl (lv_at hl 0 rfl) ?_
  refine lv_iconst (v := nI 1) hx hb dX7_closes_1 (by decide) ?_
  have hF9 := va_free (wc := [(o 0, .inr (2, mFs o th p0 q0 r0 mu (zP ln at_ er ea S.length ops.length (op9 + 1) bw bb bp (ufI unf) wr_))), (o 5, .inl (dA 1, 2640, .inr (.inl fA))), (o 6, .inl (dA 1, 32, .inr (.inl fM))), (o 8, .inl (dA 0, 100, .inl fW)), (o 9, .inl (dA 0, 100, .inl fP))]) hD hS (fun q h => hA q h) [0, 1, 2, 3, 4] rfl
  refine c_v (wr := []) (va_runV (As := [.int (nI 1)]) (rest := []) ⟨hx, hb, hml, hown, hts⟩ (x7_settles Z (va_A [(o 0, .inr (2, mFs o th p0 q0 r0 mu (zP ln at_ er ea S.length ops.length (op9 + 1) bw bb bp (ufI unf) wr_))), (o 5, .inl (dA 1, 2640, .inr (.inl fA))), (o 6, .inl (dA 1, 32, .inr (.inl fM))), (o 8, .inl (dA 0, 100, .inl fW)), (o 9, .inl (dA 0, 100, .inl fP))] s.heap.size) s.heap.size (fun q h => Or.inr h) o th p0 q0 r0 mu ln at_ er ea (op9 + 1) bw bb bp wr_ fA fM fW fP 1 ops S unf hn (by decide) hO hT hW9 hl8 hl6 hl7 hu9) (cwV 1 hts (lw_V q2474 q2476 qs88 q107 q2477) rfl rfl rfl (by decide +kernel) ⟨Nat.le_of_ble_eq_true rfl, Nat.le_of_ble_eq_true rfl⟩) (gP_V (va_recv hK hP (ci := 2) (q0 := 0) rfl rfl) hG hS (fun q _ h => hF9 q h) ⟨rfl, (hP.sub (ws' := [(o 0, .inr (2, mFs o th p0 q0 r0 mu (zP ln at_ er ea S.length ops.length (op9 + 1) bw bb bp (ufI unf) wr_))), (o 5, .inl (dA 1, 2640, .inr (.inl fA))), (o 6, .inl (dA 1, 32, .inr (.inl fM))), (o 8, .inl (dA 0, 100, .inl fW)), (o 9, .inl (dA 0, 100, .inl fP))]) [0, 1, 2, 3, 4] rfl), (hD.sub (ws' := [(o 0, .inr (2, mFs o th p0 q0 r0 mu (zP ln at_ er ea S.length ops.length (op9 + 1) bw bb bp (ufI unf) wr_))), (o 5, .inl (dA 1, 2640, .inr (.inl fA))), (o 6, .inl (dA 1, 32, .inr (.inl fM))), (o 8, .inl (dA 0, 100, .inl fW)), (o 9, .inl (dA 0, 100, .inl fP))]) [0, 1, 2, 3, 4] (by decide) rfl).self⟩) rfl rfl hl.1 rfl (lv_room (Nat.le_of_ble_eq_true rfl)) dX7_closes_2 ⟨by first | decide | omega, by first | decide | omega⟩) hP hD hS hA [0, 1, 2, 3, 4] [] rfl rfl (by decide) (by decide) (fun u9 H locs hq hX hz hk hP hD hS => ?_)
  obtain ⟨fA_1, fM_2, mu_3, ops_4, S_5, unf_6⟩ := u9
  obtain ⟨hs_k_7, hT_k_7, hK_k_7⟩ := hq
  have hs_k_7 : setP p0 q0 r0 1 ops (S, unf) = (ops_4, S_5, unf_6) := hs_k_7
  have hP : va_P (dC, dI) vwCl [(o 0, .inr (2, mFs o th p0 q0 r0 mu_3 (zP ln at_ er ea S_5.length ops_4.length (op9 + 1) bw bb bp (ufI unf_6) wr_))), (o 5, .inl (dA 1, 2640, .inr (.inl fA_1))), (o 6, .inl (dA 1, 32, .inr (.inl fM_2))), (o 8, .inl (dA 0, 100, .inl fW)), (o 9, .inl (dA 0, 100, .inl fP))] H := hP
  have hD : va_D A [(o 0, .inr (2, mFs o th p0 q0 r0 mu_3 (zP ln at_ er ea S_5.length ops_4.length (op9 + 1) bw bb bp (ufI unf_6) wr_))), (o 5, .inl (dA 1, 2640, .inr (.inl fA_1))), (o 6, .inl (dA 1, 32, .inr (.inl fM_2))), (o 8, .inl (dA 0, 100, .inl fW)), (o 9, .inl (dA 0, 100, .inl fP))] := hD
  obtain ⟨c9, w9, hw9⟩ : ∃ c w, ops_4 = c :: w := ne_cons (hne _ _ _ hs_k_7)
  subst hw9
  have hP : va_P (dC, dI) vwCl [(o 0, .inr (2, mFs o th p0 q0 r0 mu_3 (zP ln at_ er ea S_5.length (w9.length + 1) (op9 + 1) bw bb bp (ufI unf_6) wr_))), (o 5, .inl (dA 1, 2640, .inr (.inl fA_1))), (o 6, .inl (dA 1, 32, .inr (.inl fM_2))), (o 8, .inl (dA 0, 100, .inl fW)), (o 9, .inl (dA 0, 100, .inl fP))] H := hP
  have hD : va_D A [(o 0, .inr (2, mFs o th p0 q0 r0 mu_3 (zP ln at_ er ea S_5.length (w9.length + 1) (op9 + 1) bw bb bp (ufI unf_6) wr_))), (o 5, .inl (dA 1, 2640, .inr (.inl fA_1))), (o 6, .inl (dA 1, 32, .inr (.inl fM_2))), (o 8, .inl (dA 0, 100, .inl fW)), (o 9, .inl (dA 0, 100, .inl fP))] := hD
  refine lv_aload_n hx hb dX7_closes_5 rfl (lv_at hl 0 rfl) ?_
  refine lv_dup hx hb dX7_closes_6 rfl ?_
  refine va_get (D := (dC, dI)) (ci := 2) (v := .int (nI (w9.length + 1))) (C := RX7) (T := TX7) (N := 27) hx hb hts in_X7 hown hK hP 0 rfl rfl 19 (by decide) (hts _ q2025) (fun _ h9 => h9) rfl dX7_closes_7 ?_
  refine lv_iconst (v := nI 1) hx hb dX7_closes_10 (by decide) ?_
  refine lv_isub hx hb dX7_closes_11 ?_
  refine e_i (y := nI w9.length) ((pk_sub (by omega)).trans (n_eq (by omega))) ?_
  refine va_put (D := (dC, dI)) (ci := 2) (v := .int (nI w9.length)) (ty := .int) (C := RX7) (T := TX7) (N := 27) hx hb hts in_X7 tyX7 tyX7_ok nmX7 hown hK hP hD hS 0 rfl rfl 19 (by decide) (hts _ q2025) (fun _ h9 => h9) rfl (by decide +kernel) rfl rfl (Nat.le_of_ble_eq_true rfl) dX7_closes_12 (fun H locs hP hD hS => ?_)
  have hP : va_P (dC, dI) vwCl [(o 0, .inr (2, mFs o th p0 q0 r0 mu_3 (zP ln at_ er ea S_5.length w9.length (op9 + 1) bw bb bp (ufI unf_6) wr_))), (o 5, .inl (dA 1, 2640, .inr (.inl fA_1))), (o 6, .inl (dA 1, 32, .inr (.inl fM_2))), (o 8, .inl (dA 0, 100, .inl fW)), (o 9, .inl (dA 0, 100, .inl fP))] H := hP
  have hD : va_D A [(o 0, .inr (2, mFs o th p0 q0 r0 mu_3 (zP ln at_ er ea S_5.length w9.length (op9 + 1) bw bb bp (ufI unf_6) wr_))), (o 5, .inl (dA 1, 2640, .inr (.inl fA_1))), (o 6, .inl (dA 1, 32, .inr (.inl fM_2))), (o 8, .inl (dA 0, 100, .inl fW)), (o 9, .inl (dA 0, 100, .inl fP))] := hD
  refine lv_aload_n hx hb dX7_closes_15 rfl (lv_at hl 0 rfl) ?_
  refine lv_dup hx hb dX7_closes_16 rfl ?_
  refine va_get (D := (dC, dI)) (ci := 2) (v := .int (nI (op9 + 1))) (C := RX7) (T := TX7) (N := 27) hx hb hts in_X7 hown hK hP 0 rfl rfl 20 (by decide) (hts _ q2026) (fun _ h9 => h9) rfl dX7_closes_17 ?_
  refine lv_iconst (v := nI 1) hx hb dX7_closes_20 (by decide) ?_
  refine lv_isub hx hb dX7_closes_21 ?_
  refine e_i (y := nI op9) ((pk_sub (by omega)).trans (n_eq (by omega))) ?_
  refine va_put (D := (dC, dI)) (ci := 2) (v := .int (nI op9)) (ty := .int) (C := RX7) (T := TX7) (N := 27) hx hb hts in_X7 tyX7 tyX7_ok nmX7 hown hK hP hD hS 0 rfl rfl 20 (by decide) (hts _ q2026) (fun _ h9 => h9) rfl (by decide +kernel) rfl rfl (Nat.le_of_ble_eq_true rfl) dX7_closes_22 (fun H locs hP hD hS => ?_)
  have hP : va_P (dC, dI) vwCl [(o 0, .inr (2, mFs o th p0 q0 r0 mu_3 (zP ln at_ er ea S_5.length w9.length op9 bw bb bp (ufI unf_6) wr_))), (o 5, .inl (dA 1, 2640, .inr (.inl fA_1))), (o 6, .inl (dA 1, 32, .inr (.inl fM_2))), (o 8, .inl (dA 0, 100, .inl fW)), (o 9, .inl (dA 0, 100, .inl fP))] H := hP
  have hD : va_D A [(o 0, .inr (2, mFs o th p0 q0 r0 mu_3 (zP ln at_ er ea S_5.length w9.length op9 bw bb bp (ufI unf_6) wr_))), (o 5, .inl (dA 1, 2640, .inr (.inl fA_1))), (o 6, .inl (dA 1, 32, .inr (.inl fM_2))), (o 8, .inl (dA 0, 100, .inl fW)), (o 9, .inl (dA 0, 100, .inl fP))] := hD
  refine lv_aload_n hx hb dX7_closes_25 rfl (lv_at hl 0 rfl) ?_
  refine lv_dup hx hb dX7_closes_26 rfl ?_
  refine va_get (D := (dC, dI)) (ci := 2) (v := .int (nI at_)) (C := RX7) (T := TX7) (N := 27) hx hb hts in_X7 hown hK hP 0 rfl rfl 13 (by decide) (hts _ q2019) (fun _ h9 => h9) rfl dX7_closes_27 ?_
  refine lv_iconst (v := nI 1) hx hb dX7_closes_30 (by decide) ?_
  refine lv_iadd hx hb dX7_closes_31 ?_
  refine e_i (y := nI (at_ + 1)) (nI_add _ _) ?_
  refine va_put (D := (dC, dI)) (ci := 2) (v := .int (nI (at_ + 1))) (ty := .int) (C := RX7) (T := TX7) (N := 27) hx hb hts in_X7 tyX7 tyX7_ok nmX7 hown hK hP hD hS 0 rfl rfl 13 (by decide) (hts _ q2019) (fun _ h9 => h9) rfl (by decide +kernel) rfl rfl (Nat.le_of_ble_eq_true rfl) dX7_closes_32 (fun H locs hP hD hS => ?_)
  have hP : va_P (dC, dI) vwCl [(o 0, .inr (2, mFs o th p0 q0 r0 mu_3 (zP ln (at_ + 1) er ea S_5.length w9.length op9 bw bb bp (ufI unf_6) wr_))), (o 5, .inl (dA 1, 2640, .inr (.inl fA_1))), (o 6, .inl (dA 1, 32, .inr (.inl fM_2))), (o 8, .inl (dA 0, 100, .inl fW)), (o 9, .inl (dA 0, 100, .inl fP))] H := hP
  have hD : va_D A [(o 0, .inr (2, mFs o th p0 q0 r0 mu_3 (zP ln (at_ + 1) er ea S_5.length w9.length op9 bw bb bp (ufI unf_6) wr_))), (o 5, .inl (dA 1, 2640, .inr (.inl fA_1))), (o 6, .inl (dA 1, 32, .inr (.inl fM_2))), (o 8, .inl (dA 0, 100, .inl fW)), (o 9, .inl (dA 0, 100, .inl fP))] := hD
  refine lv_aload_n hx hb dX7_closes_35 rfl (lv_at hl 0 rfl) ?_
  refine lv_iconst (v := nI 0) hx hb dX7_closes_36 (by decide) ?_
  refine va_put (D := (dC, dI)) (ci := 2) (v := .int (nI 0)) (ty := .boolean) (C := RX7) (T := TX7) (N := 27) hx hb hts in_X7 tyX7 tyX7_ok nmX7 hown hK hP hD hS 0 rfl rfl 23 (by decide) (hts _ q2029) (fun _ h9 => h9) rfl (by decide +kernel) rfl rfl (Nat.le_of_ble_eq_true rfl) dX7_closes_37 (fun H locs hP hD hS => ?_)
  have hP : va_P (dC, dI) vwCl [(o 0, .inr (2, mFs o th p0 q0 r0 mu_3 (zP ln (at_ + 1) er ea S_5.length w9.length op9 bw bb false (ufI unf_6) wr_))), (o 5, .inl (dA 1, 2640, .inr (.inl fA_1))), (o 6, .inl (dA 1, 32, .inr (.inl fM_2))), (o 8, .inl (dA 0, 100, .inl fW)), (o 9, .inl (dA 0, 100, .inl fP))] H := hP
  have hD : va_D A [(o 0, .inr (2, mFs o th p0 q0 r0 mu_3 (zP ln (at_ + 1) er ea S_5.length w9.length op9 bw bb false (ufI unf_6) wr_))), (o 5, .inl (dA 1, 2640, .inr (.inl fA_1))), (o 6, .inl (dA 1, 32, .inr (.inl fM_2))), (o 8, .inl (dA 0, 100, .inl fW)), (o 9, .inl (dA 0, 100, .inl fP))] := hD
  subst hQe
  exact W.vret hx hb hr (fun tz ht hW => ⟨⟨(fA_1, fM_2, mu_3, c9 :: w9, S_5, unf_6), rfl, ⟨hs_k_7, hT_k_7, hK_k_7⟩, B1_at ht (hP.sub [0, 1, 2, 3, 4] rfl) (hD.sub [0, 1, 2, 3, 4] (by decide) rfl) trivial⟩, hS.F ht⟩) hS.2.2 dX7_closes_40
