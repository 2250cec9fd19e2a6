theorem lk_no {c : Nat} (hc : c ≤ 256) (h : c ≠ 42 ∧ c ≠ 43 ∧ c ≠ 45 ∧ c ≠ 46 ∧ c ≠ 94 ∧ c ≠ 110) : Op.lookupswitch.offset [(42, 61), (43, 59), (45, 59), (46, 63), (94, 63), (110, 59)] 65 (chI c).toInt = 65 := by
  rw [lv_osw (k := nI 42) (fun e => h.1 ((chI_eq hc (by decide)).mp e)) (by decide), lv_osw (k := nI 43) (fun e => h.2.1 ((chI_eq hc (by decide)).mp e)) (by decide), lv_osw (k := nI 45) (fun e => h.2.2.1 ((chI_eq hc (by decide)).mp e)) (by decide), lv_osw (k := nI 46) (fun e => h.2.2.2.1 ((chI_eq hc (by decide)).mp e)) (by decide), lv_osw (k := nI 94) (fun e => h.2.2.2.2.1 ((chI_eq hc (by decide)).mp e)) (by decide), lv_osw (k := nI 110) (fun e => h.2.2.2.2.2 ((chI_eq hc (by decide)).mp e)) (by decide)]
  rfl
set_option maxHeartbeats 4000000 in
theorem x7_see {l : Launch} {dC : Nat → ClassId} {dI : Nat → Nat → Nat} {dA : Nat → ClassId} {s0 : State} {b0 : Addr} (Z : Z0 l dC dI dA s0 b0) (o : Nat → Nat) (th : Int32) (p0 q0 r0 : Nat) (mu : Int64) (ln at_ : Nat) (er ea : Int32) (vs wn op_ : Nat) (bw bb bp : Bool) (uf : Int32) (wr_ : Nat) (fT : Nat → Int32) (hl9 : ln ≤ 200) (ha9 : at_ ≤ ln) : Met l yX7_see (ws_ yX7_see cX7_see 1 (some .int)) ({ frames := 1, cells := 0, slots := 0, locals := 60 } : Room) (gP [.ref (o 0)] s0 (fun _ => False) (fun H => va_P (dC, dI) vwCl [(o 0, .inr (2, mFs o th p0 q0 r0 mu (zP ln at_ er ea vs wn op_ bw bb bp uf wr_))), (o 7, .inl (dA 2, 200, .inl fT))] H)) (vp_Si (fun r => r = chI (ch (tx fT) ln at_))) 0 0 (fun _ => False) := by
  refine Met.ofW (cc := cX7_see) (maxL := 1) (ret := (some .int)) (by decide) rfl ?_
  intro p e s m args below meth c s₁ B hml hv
  obtain ⟨hav, hG, hP⟩ := hv
  have hx := B.exec
  have hb := B.bytes
  have hr := B.returns
  have hts := atoms_spec (ws := (ws_ yX7_see cX7_see 1 (some .int))) B.pre
  have hts : ∀ w ∈ lw_all, w.before _ s = true := fun w h => hts w (List.mem_cons_of_mem _ h)
  have hown : s.vm.findClass RX7 = some m.cls := findClass_of_methodNamed B.named
  have hlocks := B.notSynchronized
  have hK := hG.K Z
  have hS : va_S (fun _ => False) s.heap s.heap [] := va_S.rf
  have hl := lv_entry ([.ref (o 0)]) (n := 1) (Nat.le_of_ble_eq_true rfl)
  rw [show entryFrame m args 1 = entryFrame m ([.ref (o 0)] : List Value).toArray 1 from by rw [hav], lg_entry_eq]
  generalize (lg_sl ([.ref (o 0)]) ++ List.replicate (1 - (lg_sl ([.ref (o 0)])).length) Slot.unset).toArray = ls at hl ⊢
  have hl : lv_has ls 1 [(0, .ref (o 0))] := hl
  generalize hQe : MQ below _ _ s _ _ _ = Q
  change W p l e ({ frames := 1, cells := 0, slots := 0, locals := 60 } : Room) s m args below meth c s.heap [] 0 0 Q (F0 m 0 ls [])
  refine lv_aload_n hx hb dX7_see_0 rfl (lv_at hl 0 rfl) ?_
  refine va_get (D := (dC, dI)) (ci := 2) (v := .int (nI at_)) (C := RX7) (T := TX7) (N := 27) hx hb hts in_X7 hown hK hP 0 rfl rfl 13 (by decide) (hts _ q2019) (fun _ h9 => h9) rfl dX7_see_1 ?_
  refine lv_aload_n hx hb dX7_see_4 rfl (lv_at hl 0 rfl) ?_
  refine va_get (D := (dC, dI)) (ci := 2) (v := .int (nI ln)) (C := RX7) (T := TX7) (N := 27) hx hb hts in_X7 hown hK hP 0 rfl rfl 12 (by decide) (hts _ q2018) (fun _ h9 => h9) rfl dX7_see_5 ?_
  refine lv_icmp_ge (tgt := 27) hx hb dX7_see_8 (by decide) (fun c_8 => ?_) (fun c_8 => ?_)
  · have c_8 : ln ≤ at_ := (nI_leI (a := ln) (b := at_) (by omega) (by omega)).mp c_8
    have hc9 : ch (tx fT) ln at_ = 256 := ch_ge (by omega)
    refine lv_iconst (v := (-1)) hx hb dX7_see_27 (by decide) ?_
    subst hQe
    exact W.iret (v := (-1)) hx hb hr (fun tz ht hW => ⟨_, rfl, (by rw [hc9]; rfl), ht⟩) hS.2.2 dX7_see_28
  · have c_8 : ¬ ln ≤ at_ := fun h => c_8 ((nI_leI (a := ln) (b := at_) (by omega) (by omega)).mpr h)
    have hc9 : ch (tx fT) ln at_ = tx fT at_ := ch_lt (by omega)
    refine lv_aload_n hx hb dX7_see_11 rfl (lv_at hl 0 rfl) ?_
    refine va_get (D := (dC, dI)) (ci := 2) (v := .ref (o 7)) (C := RX7) (T := TX7) (N := 27) hx hb hts in_X7 hown hK hP 0 rfl rfl 11 (by decide) (hts _ q2017) (fun _ h9 => h9) rfl dX7_see_12 ?_
    refine lv_aload_n hx hb dX7_see_15 rfl (lv_at hl 0 rfl) ?_
    refine va_get (D := (dC, dI)) (ci := 2) (v := .int (nI at_)) (C := RX7) (T := TX7) (N := 27) hx hb hts in_X7 hown hK hP 0 rfl rfl 13 (by decide) (hts _ q2019) (fun _ h9 => h9) rfl dX7_see_16 ?_
    refine a_bald hx hb hK hP 1 2 rfl rfl (by omega) (by omega) dX7_see_19 ?_
    refine lv_sipush (v := nI 255) hx hb dX7_see_20 (by decide) ?_
    refine lv_iand hx hb dX7_see_23 ?_
    refine e_i (y := chI (ch (tx fT) ln at_)) ((by rw [hc9, chI_n (tx_lt _ _)]; exact pk_and _ 8 (by decide))) ?_
    refine lv_goto (tgt := 28) hx hb dX7_see_24 (by decide) ?_
    subst hQe
    exact W.iret (v := chI (ch (tx fT) ln at_)) hx hb hr (fun tz ht hW => ⟨_, rfl, rfl, ht⟩) hS.2.2 dX7_see_28
set_option maxHeartbeats 4000000 in
theorem x7_isDigit {l : Launch} {dC : Nat → ClassId} {dI : Nat → Nat → Nat} {dA : Nat → ClassId} {s0 : State} {b0 : Addr} (Z : Z0 l dC dI dA s0 b0) (o : Nat → Nat) (th : Int32) (p0 q0 r0 : Nat) (mu : Int64) (ln at_ : Nat) (er ea : Int32) (vs wn op_ : Nat) (bw bb bp : Bool) (uf : Int32) (wr_ : Nat) (fT : Nat → Int32) (hl9 : ln ≤ 200) (ha9 : at_ ≤ ln) : Met l yX7_isDigit (ws_ yX7_isDigit cX7_isDigit 1 (some .boolean)) ({ frames := 2, cells := 0, slots := 0, locals := 120 } : Room) (gP [.ref (o 0)] s0 (fun _ => False) (fun H => va_P (dC, dI) vwCl [(o 0, .inr (2, mFs o th p0 q0 r0 mu (zP ln at_ er ea vs wn op_ bw bb bp uf wr_))), (o 7, .inl (dA 2, 200, .inl fT))] H)) (vp_Si (fun r => r = bI (isD (ch (tx fT) ln at_)))) 0 0 (fun _ => False) := by
  refine Met.ofW (cc := cX7_isDigit) (maxL := 1) (ret := (some .boolean)) (by decide) rfl ?_
  intro p e s m args below meth c s₁ B hml hv
  obtain ⟨hav, hG, hP⟩ := hv
  have hx := B.exec
  have hb := B.bytes
  have hr := B.returns
  have hts := atoms_spec (ws := (ws_ yX7_isDigit cX7_isDigit 1 (some .boolean))) B.pre
  have hts : ∀ w ∈ lw_all, w.before _ s = true := fun w h => hts w (List.mem_cons_of_mem _ h)
  have hown : s.vm.findClass RX7 = some m.cls := findClass_of_methodNamed B.named
  have hlocks := B.notSynchronized
  have hK := hG.K Z
  have hS : va_S (fun _ => False) s.heap s.heap [] := va_S.rf
  have hl := lv_entry ([.ref (o 0)]) (n := 1) (Nat.le_of_ble_eq_true rfl)
  rw [show entryFrame m args 1 = entryFrame m ([.ref (o 0)] : List Value).toArray 1 from by rw [hav], lg_entry_eq]
  generalize (lg_sl ([.ref (o 0)]) ++ List.replicate (1 - (lg_sl ([.ref (o 0)])).length) Slot.unset).toArray = ls at hl ⊢
  have hl : lv_has ls 1 [(0, .ref (o 0))] := hl
  generalize hQe : MQ below _ _ s _ _ _ = Q
  change W p l e ({ frames := 2, cells := 0, slots := 0, locals := 120 } : Room) s m args below meth c s.heap [] 0 0 Q (F0 m 0 ls [])
  refine lv_aload_n hx hb dX7_isDigit_0 rfl (lv_at hl 0 rfl) ?_
  refine s_i (va_runV (As := []) (rest := []) ⟨hx, hb, hml, hown, hts⟩ (x7_see Z o th p0 q0 r0 mu ln at_ er ea vs wn op_ bw bb bp uf wr_ fT (by omega) (by omega)) (cwV 0 hts (lw_V q2438 q2440 qs79 q107 q2441) rfl rfl rfl (by decide +kernel) ⟨Nat.le_of_ble_eq_true rfl, Nat.le_of_ble_eq_true rfl⟩) (gP_V (va_recv hK hP (ci := 2) (q0 := 0) rfl rfl) hG hS (fun q _ h => h.elim) (hP.sub (ws' := [(o 0, .inr (2, mFs o th p0 q0 r0 mu (zP ln at_ er ea vs wn op_ bw bb bp uf wr_))), (o 7, .inl (dA 2, 200, .inl fT))]) [0, 1] rfl)) rfl rfl hl.1 rfl (lv_room (Nat.le_of_ble_eq_true rfl)) dX7_isDigit_1 ⟨by first | decide | omega, by first | decide | omega⟩) ?_
  refine lv_bipush (v := nI 48) hx hb dX7_isDigit_4 (by decide) ?_
  refine lv_bipush (v := nI 57) hx hb dX7_isDigit_6 (by decide) ?_
  refine s_i (va_runS (As := [.int (chI (ch (tx fT) ln at_)), .int (nI 48), .int (nI 57)]) (rest := []) ⟨hx, hb, hml, hown, hts⟩ (x7_in Z (chI (ch (tx fT) ln at_)) (nI 48) (nI 57)) (va_cwS 3 hts (lw_S q2097 q2098 q107 q2099) rfl rfl rfl (by decide +kernel) ⟨Nat.le_of_ble_eq_true rfl, Nat.le_of_ble_eq_true rfl⟩) (gP_S hG hS (fun q _ h => h.elim) trivial) rfl rfl hl.1 rfl (lv_room (Nat.le_of_ble_eq_true rfl)) dX7_isDigit_8 ⟨by first | decide | omega, by first | decide | omega⟩) ?_
  refine e_i (y := bI (isD (ch (tx fT) ln at_))) (congrArg bI (chI_D (ch_le _ _ _))) ?_
  subst hQe
  exact W.zret (v := bI (isD (ch (tx fT) ln at_))) hx hb hr (bI_z _) (fun tz ht hW => ⟨_, rfl, rfl, ht⟩) hS.2.2 dX7_isDigit_11
set_option maxHeartbeats 4000000 in
theorem x7_next {l : Launch} {dC : Nat → ClassId} {dI : Nat → Nat → Nat} {dA : Nat → ClassId} {s0 : State} {b0 : Addr} (Z : Z0 l dC dI dA s0 b0) (A : Nat → Prop) (sz : Nat) (hA : ∀ q : Nat, sz ≤ q → A q) (o : Nat → Nat) (th : Int32) (p0 q0 r0 : Nat) (mu : Int64) (ln at_ : Nat) (er ea : Int32) (vs wn op_ : Nat) (bw bb bp : Bool) (uf : Int32) (wr_ : Nat) (fT : Nat → Int32) (hl9 : ln ≤ 200) (ha9 : at_ ≤ ln) : Met l yX7_next (ws_ yX7_next cX7_next 1 (some .int)) ({ frames := 2, cells := 0, slots := 0, locals := 120 } : Room) (gP [.ref (o 0)] s0 A (fun H => H.size = sz ∧ va_P (dC, dI) vwCl [(o 0, .inr (2, mFs o th p0 q0 r0 mu (zP ln at_ er ea vs wn op_ bw bb bp uf wr_))), (o 7, .inl (dA 2, 200, .inl fT))] H ∧ va_D A [(o 0, .inr (2, mFs o th p0 q0 r0 mu (zP ln at_ er ea vs wn op_ bw bb bp uf wr_))), (o 7, .inl (dA 2, 200, .inl fT))])) (va_Qi (S := Unit) (fun r _ => r = chI (ch (tx fT) ln (sk (tx fT) ln at_))) (B1 (dC, dI) A (fun _ => [(o 0, .inr (2, mFs o th p0 q0 r0 mu (zP ln (sk (tx fT) ln at_) er ea vs wn op_ bw bb bp uf wr_))), (o 7, .inl (dA 2, 200, .inl fT))]) (fun _ _ => True)) A) 0 0 A := by
  refine Met.ofW (cc := cX7_next) (maxL := 1) (ret := (some .int)) (by decide) rfl ?_
  intro p e s m args below meth c s₁ B hml hv
  obtain ⟨hav, hG, hsz, hP, hD⟩ := hv
  have hx := B.exec
  have hb := B.bytes
  have hr := B.returns
  have hts := atoms_spec (ws := (ws_ yX7_next cX7_next 1 (some .int))) B.pre
  have hts : ∀ w ∈ lw_all, w.before _ s = true := fun w h => hts w (List.mem_cons_of_mem _ h)
  have hown : s.vm.findClass RX7 = some m.cls := findClass_of_methodNamed B.named
  have hlocks := B.notSynchronized
  have hK := hG.K Z
  subst hsz
  have hS : va_S A s.heap s.heap [] := va_S.rf
  have hl := lv_entry ([.ref (o 0)]) (n := 1) (Nat.le_of_ble_eq_true rfl)
  rw [show entryFrame m args 1 = entryFrame m ([.ref (o 0)] : List Value).toArray 1 from by rw [hav], lg_entry_eq]
  generalize (lg_sl ([.ref (o 0)]) ++ List.replicate (1 - (lg_sl ([.ref (o 0)])).length) Slot.unset).toArray = ls at hl ⊢
  have hl : lv_has ls 1 [(0, .ref (o 0))] := hl
  generalize hQe : MQ below _ _ s _ _ _ = Q
  change W p l e ({ frames := 2, cells := 0, slots := 0, locals := 120 } : Room) s m args below meth c s.heap [] 0 0 Q (F0 m 0 ls [])
  have loop_1 : ∀ (n9_1 : Nat) (i : Nat) (H : Heap) (locs : List Loc) (ls : Array Slot), ln - i < n9_1 → (i ≤ ln) → (sk (tx fT) ln i = sk (tx fT) ln at_) → va_P (dC, dI) vwCl [(o 0, .inr (2, mFs o th p0 q0 r0 mu (zP ln i er ea vs wn op_ bw bb bp uf wr_))), (o 7, .inl (dA 2, 200, .inl fT))] H → va_D A [(o 0, .inr (2, mFs o th p0 q0 r0 mu (zP ln i er ea vs wn op_ bw bb bp uf wr_))), (o 7, .inl (dA 2, 200, .inl fT))] → va_S A s.heap H locs → lv_has ls 1 [(0, .ref (o 0))] → W p l e ({ frames := 2, cells := 0, slots := 0, locals := 120 } : Room) s m args below meth c H locs 0 0 Q (F0 m 0 ls []) := by
    intro n9_1
    induction n9_1 with
    | zero => intro i H locs ls hm_1; exact absurd hm_1 (Nat.not_lt_zero _)
    | succ n9_1 ih_1 =>
      intro i H locs ls hm_1 hi9 hs9 hP hD hS hl
      refine lv_aload_n hx hb dX7_next_0 rfl (lv_at hl 0 rfl) ?_
      refine s_i (va_runV (As := []) (rest := []) ⟨hx, hb, hml, hown, hts⟩ (x7_see Z o th p0 q0 r0 mu ln i er ea vs wn op_ bw bb bp uf wr_ fT (by omega) (by omega)) (cwV 0 hts (lw_V q2438 q2440 qs79 q107 q2441) rfl rfl rfl (by decide +kernel) ⟨Nat.le_of_ble_eq_true rfl, Nat.le_of_ble_eq_true rfl⟩) (gP_V (va_recv hK hP (ci := 2) (q0 := 0) rfl rfl) hG hS (fun q _ h => h.elim) (hP.sub (ws' := [(o 0, .inr (2, mFs o th p0 q0 r0 mu (zP ln i er ea vs wn op_ bw bb bp uf wr_))), (o 7, .inl (dA 2, 200, .inl fT))]) [0, 1] rfl)) rfl rfl hl.1 rfl (lv_room (Nat.le_of_ble_eq_true rfl)) dX7_next_1 ⟨by first | decide | omega, by first | decide | omega⟩) ?_
      refine lv_bipush (v := nI 32) hx hb dX7_next_4 (by decide) ?_
      refine lv_icmp_ne (tgt := 22) hx hb dX7_next_6 (by decide) (fun c_6 => ?_) (fun c_6 => ?_)
      · have hsf : isS (ch (tx fT) ln i) = false := decide_eq_false (fun h => c_6 ((chI_eq (ch_le _ _ _) (by decide)).mpr h))
        have hi8 : i = sk (tx fT) ln at_ := hs9 ▸ (runE_f hsf).symm
        refine lv_aload_n hx hb dX7_next_22 rfl (lv_at hl 0 rfl) ?_
        refine s_i (va_runV (As := []) (rest := []) ⟨hx, hb, hml, hown, hts⟩ (x7_see Z o th p0 q0 r0 mu ln i er ea vs wn op_ bw bb bp uf wr_ fT (by omega) (by omega)) (cwV 0 hts (lw_V q2438 q2440 qs79 q107 q2441) rfl rfl rfl (by decide +kernel) ⟨Nat.le_of_ble_eq_true rfl, Nat.le_of_ble_eq_true rfl⟩) (gP_V (va_recv hK hP (ci := 2) (q0 := 0) rfl rfl) hG hS (fun q _ h => h.elim) (hP.sub (ws' := [(o 0, .inr (2, mFs o th p0 q0 r0 mu (zP ln i er ea vs wn op_ bw bb bp uf wr_))), (o 7, .inl (dA 2, 200, .inl fT))]) [0, 1] rfl)) rfl rfl hl.1 rfl (lv_room (Nat.le_of_ble_eq_true rfl)) dX7_next_23 ⟨by first | decide | omega, by first | decide | omega⟩) ?_
        subst hQe
        exact W.iret (v := chI (ch (tx fT) ln i)) hx hb hr (fun tz ht hW => ⟨⟨_, (), rfl, (by rw [← hi8]), B1_at ht (by rw [← hi8]; exact hP.sub [0, 1] rfl) (by rw [← hi8]; exact hD.sub [0, 1] (by decide) rfl) trivial⟩, hS.F ht⟩) hS.2.2 dX7_next_26
      · have hS8 : isS (ch (tx fT) ln i) = true := decide_eq_true ((chI_eq (ch_le _ _ _) (by decide)).mp c_6)
        have hi8 := D_in rfl hS8
        refine lv_aload_n hx hb dX7_next_9 rfl (lv_at hl 0 rfl) ?_
        refine lv_dup hx hb dX7_next_10 rfl ?_
        refine va_get (D := (dC, dI)) (ci := 2) (v := .int (nI i)) (C := RX7) (T := TX7) (N := 27) hx hb hts in_X7 hown hK hP 0 rfl rfl 13 (by decide) (hts _ q2019) (fun _ h9 => h9) rfl dX7_next_11 ?_
        refine lv_iconst (v := nI 1) hx hb dX7_next_14 (by decide) ?_
        refine lv_iadd hx hb dX7_next_15 ?_
        refine e_i (y := nI (i + 1)) (nI_add _ _) ?_
        refine va_put (D := (dC, dI)) (ci := 2) (v := .int (nI (i + 1))) (ty := .int) (C := RX7) (T := TX7) (N := 27) hx hb hts in_X7 tyX7 tyX7_ok nmX7 hown hK hP hD hS 0 rfl rfl 13 (by decide) (hts _ q2019) (fun _ h9 => h9) rfl (by decide +kernel) rfl rfl (Nat.le_of_ble_eq_true rfl) dX7_next_16 (fun H locs hP hD hS => ?_)
        have hP : va_P (dC, dI) vwCl [(o 0, .inr (2, mFs o th p0 q0 r0 mu (zP ln (i + 1) er ea vs wn op_ bw bb bp uf wr_))), (o 7, .inl (dA 2, 200, .inl fT))] H := hP
        have hD : va_D A [(o 0, .inr (2, mFs o th p0 q0 r0 mu (zP ln (i + 1) er ea vs wn op_ bw bb bp uf wr_))), (o 7, .inl (dA 2, 200, .inl fT))] := hD
        refine lv_goto (tgt := 0) hx hb dX7_next_19 (by decide) ?_
        exact ih_1 (i + 1) H locs ls (by omega) (by omega) (by rw [← hs9]; exact (runE_t hi8 hS8).symm) (hP.sub [0, 1] rfl) (hD.sub [0, 1] (by decide) rfl) hS (lv_sub hl [0] rfl)
  exact loop_1 _ at_ s.heap [] ls (Nat.lt_succ_self _) (by omega) rfl hP hD hS (lv_sub hl [0] rfl)
set_option maxHeartbeats 4000000 in
theorem x7_fails {l : Launch} {dC : Nat → ClassId} {dI : Nat → Nat → Nat} {dA : Nat → ClassId} {s0 : State} {b0 : Addr} (Z : Z0 l dC dI dA s0 b0) (A : Nat → Prop) (sz : Nat) (hA : ∀ q : Nat, sz ≤ q → A q) (o : Nat → Nat) (th : Int32) (p0 q0 r0 : Nat) (mu : Int64) (ln at_ : Nat) (er ea : Int32) (vs wn op_ : Nat) (bw bb bp : Bool) (uf : Int32) (wr_ : Nat) (cc kk : Int32) : Met l yX7_fails (ws_ yX7_fails cX7_fails 3 none) ({ frames := 1, cells := 0, slots := 0, locals := 60 } : Room) (gP [.ref (o 0), .int cc, .int kk] s0 A (fun H => H.size = sz ∧ va_P (dC, dI) vwCl [(o 0, .inr (2, mFs o th p0 q0 r0 mu (zP ln at_ er ea vs wn op_ bw bb bp uf wr_)))] H ∧ va_D A [(o 0, .inr (2, mFs o th p0 q0 r0 mu (zP ln at_ er ea vs wn op_ bw bb bp uf wr_)))])) (va_Qv (S := Unit) (fun _ => True) (B1 (dC, dI) A (fun _ => [(o 0, .inr (2, mFs o th p0 q0 r0 mu (zP ln at_ ((flE er ea cc kk).1) ((flE er ea cc kk).2) vs wn op_ bw bb bp uf wr_)))]) (fun _ _ => True)) A) 0 0 A := by
  refine Met.ofW (cc := cX7_fails) (maxL := 3) (ret := none) (by decide) rfl ?_
  intro p e s m args below meth c s₁ B hml hv
  obtain ⟨hav, hG, hsz, hP, hD⟩ := hv
  have hx := B.exec
  have hb := B.bytes
  have hr := B.returns
  have hts := atoms_spec (ws := (ws_ yX7_fails cX7_fails 3 none)) B.pre
  have hts : ∀ w ∈ lw_all, w.before _ s = true := fun w h => hts w (List.mem_cons_of_mem _ h)
  have hown : s.vm.findClass RX7 = some m.cls := findClass_of_methodNamed B.named
  have hlocks := B.notSynchronized
  have hK := hG.K Z
  subst hsz
  have hS : va_S A s.heap s.heap [] := va_S.rf
  have hl := lv_entry ([.ref (o 0), .int cc, .int kk]) (n := 3) (Nat.le_of_ble_eq_true rfl)
  rw [show entryFrame m args 3 = entryFrame m ([.ref (o 0), .int cc, .int kk] : List Value).toArray 3 from by rw [hav], lg_entry_eq]
  generalize (lg_sl ([.ref (o 0), .int cc, .int kk]) ++ List.replicate (3 - (lg_sl ([.ref (o 0), .int cc, .int kk])).length) Slot.unset).toArray = ls at hl ⊢
  have hl : lv_has ls 3 [(0, .ref (o 0)), (1, .int cc), (2, .int kk)] := hl
  generalize hQe : MQ below _ _ s _ _ _ = Q
  change W p l e ({ frames := 1, cells := 0, slots := 0, locals := 60 } : Room) s m args below meth c s.heap [] 0 0 Q (F0 m 0 ls [])
  refine lv_aload_n hx hb dX7_fails_0 rfl (lv_at hl 0 rfl) ?_
  refine va_get (D := (dC, dI)) (ci := 2) (v := .int er) (C := RX7) (T := TX7) (N := 27) hx hb hts in_X7 hown hK hP 0 rfl rfl 14 (by decide) (hts _ q2020) (fun _ h9 => h9) rfl dX7_fails_1 ?_
  refine lv_if_ne (tgt := 17) hx hb dX7_fails_4 (by decide) (fun c_4 => ?_) (fun c_4 => ?_)
  · have hf9 : flE er ea cc kk = (er, ea) := if_neg c_4
    subst hQe
    exact W.vret hx hb hr (fun tz ht hW => ⟨⟨(), rfl, trivial, B1_at ht (by rw [hf9]; exact hP.sub [0] rfl) (by rw [hf9]; exact hD.sub [0] (by decide) rfl) trivial⟩, hS.F ht⟩) hS.2.2 dX7_fails_17
  · have hf9 : flE er ea cc kk = (cc, kk) := if_pos c_4
    refine lv_aload_n hx hb dX7_fails_7 rfl (lv_at hl 0 rfl) ?_
    refine lv_iload_n hx hb dX7_fails_8 rfl (lv_at hl 1 rfl) ?_
    refine va_put (D := (dC, dI)) (ci := 2) (v := .int cc) (ty := .int) (C := RX7) (T := TX7) (N := 27) hx hb hts in_X7 tyX7 tyX7_ok nmX7 hown hK hP hD hS 0 rfl rfl 14 (by decide) (hts _ q2020) (fun _ h9 => h9) rfl (by decide +kernel) rfl rfl (Nat.le_of_ble_eq_true rfl) dX7_fails_9 (fun H locs hP hD hS => ?_)
    have hP : va_P (dC, dI) vwCl [(o 0, .inr (2, mFs o th p0 q0 r0 mu (zP ln at_ cc ea vs wn op_ bw bb bp uf wr_)))] H := hP
    have hD : va_D A [(o 0, .inr (2, mFs o th p0 q0 r0 mu (zP ln at_ cc ea vs wn op_ bw bb bp uf wr_)))] := hD
    refine lv_aload_n hx hb dX7_fails_12 rfl (lv_at hl 0 rfl) ?_
    refine lv_iload_n hx hb dX7_fails_13 rfl (lv_at hl 2 rfl) ?_
    refine va_put (D := (dC, dI)) (ci := 2) (v := .int kk) (ty := .int) (C := RX7) (T := TX7) (N := 27) hx hb hts in_X7 tyX7 tyX7_ok nmX7 hown hK hP hD hS 0 rfl rfl 15 (by decide) (hts _ q2021) (fun _ h9 => h9) rfl (by decide +kernel) rfl rfl (Nat.le_of_ble_eq_true rfl) dX7_fails_14 (fun H locs hP hD hS => ?_)
    have hP : va_P (dC, dI) vwCl [(o 0, .inr (2, mFs o th p0 q0 r0 mu (zP ln at_ cc kk vs wn op_ bw bb bp uf wr_)))] H := hP
    have hD : va_D A [(o 0, .inr (2, mFs o th p0 q0 r0 mu (zP ln at_ cc kk vs wn op_ bw bb bp uf wr_)))] := hD
    subst hQe
    exact W.vret hx hb hr (fun tz ht hW => ⟨⟨(), rfl, trivial, B1_at ht (by rw [hf9]; exact hP.sub [0] rfl) (by rw [hf9]; exact hD.sub [0] (by decide) rfl) trivial⟩, hS.F ht⟩) hS.2.2 dX7_fails_17
set_option maxHeartbeats 4000000 in
theorem x7_level {l : Launch} {dC : Nat → ClassId} {dI : Nat → Nat → Nat} {dA : Nat → ClassId} {s0 : State} {b0 : Addr} (Z : Z0 l dC dI dA s0 b0) (c9 : Nat) (hc9 : c9 ≤ 256) : Met l yX7_level (ws_ yX7_level cX7_level 1 (some .int)) ({ frames := 1, cells := 0, slots := 0, locals := 60 } : Room) (gP [.int (chI c9)] s0 (fun _ => False) (fun H => True)) (vp_Si (fun r => r = nI (lvl c9))) 0 0 (fun _ => False) := by
  refine Met.ofW (cc := cX7_level) (maxL := 1) (ret := (some .int)) (by decide) rfl ?_
  intro p e s m args below meth c s₁ B hml hv
  obtain ⟨hav, hG, hno⟩ := hv
  have hx := B.exec
  have hb := B.bytes
  have hr := B.returns
  have hts := atoms_spec (ws := (ws_ yX7_level cX7_level 1 (some .int))) B.pre
  have hts : ∀ w ∈ lw_all, w.before _ s = true := fun w h => hts w (List.mem_cons_of_mem _ h)
  have hown : s.vm.findClass RX7 = some m.cls := findClass_of_methodNamed B.named
  have hlocks := B.notSynchronized
  have hK := hG.K Z
  have hS : va_S (fun _ => False) s.heap s.heap [] := va_S.rf
  have hP : va_P (dC, dI) vwCl [] s.heap := fun k q h => by simp at h
  have hD : va_D (fun _ => False) [] := ⟨fun i j p q h => by simp at h, fun k q h => by simp at h⟩
  have hl := lv_entry ([.int (chI c9)]) (n := 1) (Nat.le_of_ble_eq_true rfl)
  rw [show entryFrame m args 1 = entryFrame m ([.int (chI c9)] : List Value).toArray 1 from by rw [hav], lg_entry_eq]
  generalize (lg_sl ([.int (chI c9)]) ++ List.replicate (1 - (lg_sl ([.int (chI c9)])).length) Slot.unset).toArray = ls at hl ⊢
  have hl : lv_has ls 1 [(0, .int (chI c9))] := hl
  generalize hQe : MQ below _ _ s _ _ _ = Q
  change W p l e ({ frames := 1, cells := 0, slots := 0, locals := 60 } : Room) s m args below meth c s.heap [] 0 0 Q (F0 m 0 ls [])
  refine lv_iload_n hx hb dX7_level_0 rfl (lv_at hl 0 rfl) ?_
  rcases (show c9 = 42 ∨ c9 = 43 ∨ c9 = 45 ∨ c9 = 46 ∨ c9 = 94 ∨ c9 = 110 ∨ (c9 ≠ 42 ∧ c9 ≠ 43 ∧ c9 ≠ 45 ∧ c9 ≠ 46 ∧ c9 ≠ 94 ∧ c9 ≠ 110) by omega) with rfl | rfl | rfl | rfl | rfl | rfl | hno
  · refine lv_lookup (off := 61) (tgt := 62) hx hb dX7_level_1 (by decide) (by decide) (by decide) ?_
    refine lv_iconst (v := nI 2) hx hb dX7_level_62 (by decide) ?_
    subst hQe
    exact W.iret (v := nI 2) hx hb hr (fun tz ht hW => ⟨_, rfl, rfl, ht⟩) hS.2.2 dX7_level_63
  · refine lv_lookup (off := 59) (tgt := 60) hx hb dX7_level_1 (by decide) (by decide) (by decide) ?_
    refine lv_iconst (v := nI 1) hx hb dX7_level_60 (by decide) ?_
    subst hQe
    exact W.iret (v := nI 1) hx hb hr (fun tz ht hW => ⟨_, rfl, rfl, ht⟩) hS.2.2 dX7_level_61
  · refine lv_lookup (off := 59) (tgt := 60) hx hb dX7_level_1 (by decide) (by decide) (by decide) ?_
    refine lv_iconst (v := nI 1) hx hb dX7_level_60 (by decide) ?_
    subst hQe
    exact W.iret (v := nI 1) hx hb hr (fun tz ht hW => ⟨_, rfl, rfl, ht⟩) hS.2.2 dX7_level_61
  · refine lv_lookup (off := 63) (tgt := 64) hx hb dX7_level_1 (by decide) (by decide) (by decide) ?_
    refine lv_iconst (v := nI 3) hx hb dX7_level_64 (by decide) ?_
    subst hQe
    exact W.iret (v := nI 3) hx hb hr (fun tz ht hW => ⟨_, rfl, rfl, ht⟩) hS.2.2 dX7_level_65
  · refine lv_lookup (off := 63) (tgt := 64) hx hb dX7_level_1 (by decide) (by decide) (by decide) ?_
    refine lv_iconst (v := nI 3) hx hb dX7_level_64 (by decide) ?_
    subst hQe
    exact W.iret (v := nI 3) hx hb hr (fun tz ht hW => ⟨_, rfl, rfl, ht⟩) hS.2.2 dX7_level_65
  · refine lv_lookup (off := 59) (tgt := 60) hx hb dX7_level_1 (by decide) (by decide) (by decide) ?_
    refine lv_iconst (v := nI 1) hx hb dX7_level_60 (by decide) ?_
    subst hQe
    exact W.iret (v := nI 1) hx hb hr (fun tz ht hW => ⟨_, rfl, rfl, ht⟩) hS.2.2 dX7_level_61
  · refine lv_lookup (off := 65) (tgt := 66) hx hb dX7_level_1 (by decide) (lk_no hc9 hno) (by decide) ?_
    refine lv_iconst (v := nI 0) hx hb dX7_level_66 (by decide) ?_
    subst hQe
    exact W.iret (v := nI 0) hx hb hr (fun tz ht hW => ⟨_, rfl, (by unfold lvl; rw [if_neg (by omega), if_neg (by omega), if_neg (by omega)]), ht⟩) hS.2.2 dX7_level_67
set_option maxHeartbeats 4000000 in
theorem x7_number {l : Launch} {dC : Nat → ClassId} {dI : Nat → Nat → Nat} {dA : Nat → ClassId} {s0 : State} {b0 : Addr} (Z : Z0 l dC dI dA s0 b0) (A : Nat → Prop) (sz : Nat) (hA : ∀ q : Nat, sz ≤ q → A q) (o : Nat → Nat) (th : Int32) (p0 q0 r0 : Nat) (mu : Int64) (ln at_ : Nat) (er ea : Int32) (vs wn op_ : Nat) (bw bb bp : Bool) (uf : Int32) (wr_ : Nat) (fT : Nat → Int32) (lst : Nat) (hl9 : ln ≤ 200) (ha9 : at_ ≤ ln) (hlst : lst ≤ 1) : Met l yX7_number (ws_ yX7_number cX7_number 4 (some .int)) ({ frames := 3, cells := 0, slots := 0, locals := 180 } : Room) (gP [.ref (o 0), .int (nI lst)] s0 A (fun H => H.size = sz ∧ va_P (dC, dI) vwCl [(o 0, .inr (2, mFs o th p0 q0 r0 mu (zP ln at_ (nI 0) ea vs wn op_ bw bb bp uf wr_))), (o 7, .inl (dA 2, 200, .inl fT))] H ∧ va_D A [(o 0, .inr (2, mFs o th p0 q0 r0 mu (zP ln at_ (nI 0) ea vs wn op_ bw bb bp uf wr_))), (o 7, .inl (dA 2, 200, .inl fT))])) (va_Qi (S := Unit) (fun r _ => r = nI (numV (tx fT) ln at_)) (B1 (dC, dI) A (fun _ => [(o 0, .inr (2, mFs o th p0 q0 r0 mu (zP ln (dE (tx fT) ln at_) (nI (numE (tx fT) ln lst at_)) (if numE (tx fT) ln lst at_ = 0 then ea else nI at_) vs wn op_ bw bb bp uf wr_))), (o 7, .inl (dA 2, 200, .inl fT))]) (fun _ _ => True)) A) 0 0 A := by
  refine Met.ofW (cc := cX7_number) (maxL := 4) (ret := (some .int)) (by decide) rfl ?_
  intro p e s m args below meth c s₁ B hml hv
  obtain ⟨hav, hG, hsz, hP, hD⟩ := hv
  have hx := B.exec
  have hb := B.bytes
  have hr := B.returns
  have hts := atoms_spec (ws := (ws_ yX7_number cX7_number 4 (some .int))) B.pre
  have hts : ∀ w ∈ lw_all, w.before _ s = true := fun w h => hts w (List.mem_cons_of_mem _ h)
  have hown : s.vm.findClass RX7 = some m.cls := findClass_of_methodNamed B.named
  have hlocks := B.notSynchronized
  have hK := hG.K Z
  subst hsz
  have hS : va_S A s.heap s.heap [] := va_S.rf
  have hl := lv_entry ([.ref (o 0), .int (nI lst)]) (n := 4) (Nat.le_of_ble_eq_true rfl)
  rw [show entryFrame m args 4 = entryFrame m ([.ref (o 0), .int (nI lst)] : List Value).toArray 4 from by rw [hav], lg_entry_eq]
  generalize (lg_sl ([.ref (o 0), .int (nI lst)]) ++ List.replicate (4 - (lg_sl ([.ref (o 0), .int (nI lst)])).length) Slot.unset).toArray = ls at hl ⊢
  have hl : lv_has ls 4 [(0, .ref (o 0)), (1, .int (nI lst))] := hl
  generalize hQe : MQ below _ _ s _ _ _ = Q
  change W p l e ({ frames := 3, cells := 0, slots := 0, locals := 180 } : Room) s m args below meth c s.heap [] 0 0 Q (F0 m 0 ls [])
  have hd0 : at_ ≤ dE (tx fT) ln at_ := runE_ge
  have hd1 : dE (tx fT) ln at_ ≤ ln := runE_le ha9
  refine lv_aload_n hx hb dX7_number_0 rfl (lv_at hl 0 rfl) ?_
  refine va_get (D := (dC, dI)) (ci := 2) (v := .int (nI at_)) (C := RX7) (T := TX7) (N := 27) hx hb hts in_X7 hown hK hP 0 rfl rfl 13 (by decide) (hts _ q2019) (fun _ h9 => h9) rfl dX7_number_1 ?_
  refine lv_istore_n (lv' := [(2, .int (nI at_)), (0, .ref (o 0)), (1, .int (nI lst))]) hx hb dX7_number_4 rfl hl (by decide) rfl (fun ls hl => ?_)
  refine lv_iconst (v := nI 0) hx hb dX7_number_5 (by decide) ?_
  refine lv_istore_n (lv' := [(3, .int (nI 0)), (2, .int (nI at_)), (0, .ref (o 0)), (1, .int (nI lst))]) hx hb dX7_number_6 rfl hl (by decide) rfl (fun ls hl => ?_)
  refine lv_aload_n hx hb dX7_number_7 rfl (lv_at hl 2 rfl) ?_
  refine s_i (va_runV (As := []) (rest := []) ⟨hx, hb, hml, hown, hts⟩ (x7_isDigit Z o th p0 q0 r0 mu ln at_ (nI 0) ea vs wn op_ bw bb bp uf wr_ fT (by omega) (by omega)) (cwV 0 hts (lw_V q2446 q2448 qs81 q107 q2449) rfl rfl rfl (by decide +kernel) ⟨Nat.le_of_ble_eq_true rfl, Nat.le_of_ble_eq_true rfl⟩) (gP_V (va_recv hK hP (ci := 2) (q0 := 0) rfl rfl) hG hS (fun q _ h => h.elim) (hP.sub (ws' := [(o 0, .inr (2, mFs o th p0 q0 r0 mu (zP ln at_ (nI 0) ea vs wn op_ bw bb bp uf wr_))), (o 7, .inl (dA 2, 200, .inl fT))]) [0, 1] rfl)) rfl rfl hl.1 rfl (lv_room (Nat.le_of_ble_eq_true rfl)) dX7_number_8 ⟨by first | decide | omega, by first | decide | omega⟩) ?_
  refine lv_if_ne (tgt := 20) hx hb dX7_number_11 (by decide) (fun c_11 => ?_) (fun c_11 => ?_)
  · have hD9 := bI_1 c_11
    have hl : lv_has ls 4 [(3, .int (nI (nv (tx fT) at_ (at_ - at_)))), (2, .int (nI at_)), (0, .ref (o 0)), (1, .int (nI lst))] := by rw [show nI (nv (tx fT) at_ (at_ - at_)) = nI 0 from (by rw [Nat.sub_self]; rfl)]; exact hl
    have loop_1 : ∀ (n9_1 : Nat) (i : Nat) (H : Heap) (locs : List Loc) (ls : Array Slot), ln - i < n9_1 → (at_ ≤ i ∧ i ≤ ln) → (dE (tx fT) ln i = dE (tx fT) ln at_) → va_P (dC, dI) vwCl [(o 0, .inr (2, mFs o th p0 q0 r0 mu (zP ln i (nI 0) ea vs wn op_ bw bb bp uf wr_))), (o 7, .inl (dA 2, 200, .inl fT))] H → va_D A [(o 0, .inr (2, mFs o th p0 q0 r0 mu (zP ln i (nI 0) ea vs wn op_ bw bb bp uf wr_))), (o 7, .inl (dA 2, 200, .inl fT))] → va_S A s.heap H locs → lv_has ls 4 [(0, .ref (o 0)), (1, .int (nI lst)), (2, .int (nI at_)), (3, .int (nI (nv (tx fT) at_ (i - at_))))] → W p l e ({ frames := 3, cells := 0, slots := 0, locals := 180 } : Room) s m args below meth c H locs 0 0 Q (F0 m 20 ls []) := by
      intro n9_1
      induction n9_1 with
      | zero => intro i H locs ls hm_1; exact absurd hm_1 (Nat.not_lt_zero _)
      | succ n9_1 ih_1 =>
        intro i H locs ls hm_1 hi9 hs9 hP hD hS hl
        refine lv_aload_n hx hb dX7_number_20 rfl (lv_at hl 0 rfl) ?_
        refine s_i (va_runV (As := []) (rest := []) ⟨hx, hb, hml, hown, hts⟩ (x7_isDigit Z o th p0 q0 r0 mu ln i (nI 0) ea vs wn op_ bw bb bp uf wr_ fT (by omega) (by omega)) (cwV 0 hts (lw_V q2446 q2448 qs81 q107 q2449) rfl rfl rfl (by decide +kernel) ⟨Nat.le_of_ble_eq_true rfl, Nat.le_of_ble_eq_true rfl⟩) (gP_V (va_recv hK hP (ci := 2) (q0 := 0) rfl rfl) hG hS (fun q _ h => h.elim) (hP.sub (ws' := [(o 0, .inr (2, mFs o th p0 q0 r0 mu (zP ln i (nI 0) ea vs wn op_ bw bb bp uf wr_))), (o 7, .inl (dA 2, 200, .inl fT))]) [0, 1] rfl)) rfl rfl hl.1 rfl (lv_room (Nat.le_of_ble_eq_true rfl)) dX7_number_21 ⟨by first | decide | omega, by first | decide | omega⟩) ?_
        refine lv_if_eq (tgt := 68) hx hb dX7_number_24 (by decide) (fun c_24 => ?_) (fun c_24 => ?_)
        · have hi8 : i = dE (tx fT) ln at_ := hs9 ▸ (runE_f (bI_0 c_24)).symm
          subst hi8
          have hv9 : nv (tx fT) at_ ((dE (tx fT) ln at_) - at_) < 100000000 := numV8
          refine lv_aload_n hx hb dX7_number_68 rfl (lv_at hl 0 rfl) ?_
          refine va_get (D := (dC, dI)) (ci := 2) (v := .int (nI (dE (tx fT) ln at_))) (C := RX7) (T := TX7) (N := 27) hx hb hts in_X7 hown hK hP 0 rfl rfl 13 (by decide) (hts _ q2019) (fun _ h9 => h9) rfl dX7_number_69 ?_
          refine lv_iload_n hx hb dX7_number_72 rfl (lv_at hl 2 rfl) ?_
          refine lv_isub hx hb dX7_number_73 ?_
          refine e_i (y := nI ((dE (tx fT) ln at_) - at_)) (pk_sub (by omega)) ?_
          refine lv_bipush (v := nI 8) hx hb dX7_number_74 (by decide) ?_
          refine lv_icmp_gt (tgt := 84) hx hb dX7_number_76 (by decide) (fun c_76 => ?_) (fun c_76 => ?_)
          · have c_76 : 8 < ((dE (tx fT) ln at_) - at_) := (nI_ltI (a := 8) (b := ((dE (tx fT) ln at_) - at_)) (by omega) (by omega)).mp c_76
            have hN9 : numE (tx fT) ln lst at_ = 2 := by unfold numE; rw [if_neg (by rw [hD9]; decide), if_pos (Or.inl c_76)]
            refine lv_aload_n hx hb dX7_number_84 rfl (lv_at hl 0 rfl) ?_
            refine lv_iconst (v := nI 2) hx hb dX7_number_85 (by decide) ?_
            refine lv_iload_n hx hb dX7_number_86 rfl (lv_at hl 2 rfl) ?_
            have hF9 := va_free (wc := [(o 0, .inr (2, mFs o th p0 q0 r0 mu (zP ln (dE (tx fT) ln at_) (nI 0) ea vs wn op_ bw bb bp uf wr_)))]) hD hS (fun q h => hA q h) [0] rfl
            refine c_v (wr := [(o 7, .inl (dA 2, 200, .inl fT))]) (va_runV (As := [.int (nI 2), .int (nI at_)]) (rest := []) ⟨hx, hb, hml, hown, hts⟩ (x7_fails Z (va_A [(o 0, .inr (2, mFs o th p0 q0 r0 mu (zP ln (dE (tx fT) ln at_) (nI 0) ea vs wn op_ bw bb bp uf wr_)))] H.size) H.size (fun q h => Or.inr h) o th p0 q0 r0 mu ln (dE (tx fT) ln at_) (nI 0) ea vs wn op_ bw bb bp uf wr_ (nI 2) (nI at_)) (cwV 2 hts (lw_V q2458 q2460 qs84 q107 q2461) rfl rfl rfl (by decide +kernel) ⟨Nat.le_of_ble_eq_true rfl, Nat.le_of_ble_eq_true rfl⟩) (gP_V (va_recv hK hP (ci := 2) (q0 := 0) rfl rfl) hG hS (fun q _ h => hF9 q h) ⟨rfl, (hP.sub (ws' := [(o 0, .inr (2, mFs o th p0 q0 r0 mu (zP ln (dE (tx fT) ln at_) (nI 0) ea vs wn op_ bw bb bp uf wr_)))]) [0] rfl), (hD.sub (ws' := [(o 0, .inr (2, mFs o th p0 q0 r0 mu (zP ln (dE (tx fT) ln at_) (nI 0) ea vs wn op_ bw bb bp uf wr_)))]) [0] (by decide) rfl).self⟩) rfl rfl hl.1 rfl (lv_room (Nat.le_of_ble_eq_true rfl)) dX7_number_87 ⟨by first | decide | omega, by first | decide | omega⟩) hP hD hS hA [0] [1] rfl rfl (by decide) (by decide) (fun u9 H locs hq hX hz hk hP hD hS => ?_)
            have hP : va_P (dC, dI) vwCl [(o 7, .inl (dA 2, 200, .inl fT)), (o 0, .inr (2, mFs o th p0 q0 r0 mu (zP ln (dE (tx fT) ln at_) (nI 2) (nI at_) vs wn op_ bw bb bp uf wr_)))] H := hP
            have hD : va_D A [(o 7, .inl (dA 2, 200, .inl fT)), (o 0, .inr (2, mFs o th p0 q0 r0 mu (zP ln (dE (tx fT) ln at_) (nI 2) (nI at_) vs wn op_ bw bb bp uf wr_)))] := hD
            refine lv_iload_n hx hb dX7_number_90 rfl (lv_at hl 3 rfl) ?_
            subst hQe
            exact W.iret (v := nI (nv (tx fT) at_ ((dE (tx fT) ln at_) - at_))) hx hb hr (fun tz ht hW => ⟨⟨_, (), rfl, rfl, B1_at ht (by rw [hN9]; exact hP.sub [1, 0] rfl) (by rw [hN9]; exact hD.sub [1, 0] (by decide) rfl) trivial⟩, hS.F ht⟩) hS.2.2 dX7_number_91
          · have c_76 : ¬ 8 < ((dE (tx fT) ln at_) - at_) := fun h => c_76 ((nI_ltI (a := 8) (b := ((dE (tx fT) ln at_) - at_)) (by omega) (by omega)).mpr h)
            refine lv_iload_n hx hb dX7_number_79 rfl (lv_at hl 3 rfl) ?_
            refine lv_iload_n hx hb dX7_number_80 rfl (lv_at hl 1 rfl) ?_
            refine lv_icmp_ge (tgt := 90) hx hb dX7_number_81 (by decide) (fun c_81 => ?_) (fun c_81 => ?_)
            · have c_81 : lst ≤ (nv (tx fT) at_ ((dE (tx fT) ln at_) - at_)) := (nI_leI (a := lst) (b := (nv (tx fT) at_ ((dE (tx fT) ln at_) - at_))) (by omega) (by omega)).mp c_81
              have hN9 : numE (tx fT) ln lst at_ = 0 := by unfold numE; rw [if_neg (by rw [hD9]; decide), if_neg (by omega)]
              refine lv_iload_n hx hb dX7_number_90 rfl (lv_at hl 3 rfl) ?_
              subst hQe
              exact W.iret (v := nI (nv (tx fT) at_ ((dE (tx fT) ln at_) - at_))) hx hb hr (fun tz ht hW => ⟨⟨_, (), rfl, rfl, B1_at ht (by rw [hN9]; exact hP.sub [0, 1] rfl) (by rw [hN9]; exact hD.sub [0, 1] (by decide) rfl) trivial⟩, hS.F ht⟩) hS.2.2 dX7_number_91
            · have c_81 : ¬ lst ≤ (nv (tx fT) at_ ((dE (tx fT) ln at_) - at_)) := fun h => c_81 ((nI_leI (a := lst) (b := (nv (tx fT) at_ ((dE (tx fT) ln at_) - at_))) (by omega) (by omega)).mpr h)
              have hN9 : numE (tx fT) ln lst at_ = 2 := by unfold numE; rw [if_neg (by rw [hD9]; decide), if_pos (Or.inr (by omega))]
              refine lv_aload_n hx hb dX7_number_84 rfl (lv_at hl 0 rfl) ?_
              refine lv_iconst (v := nI 2) hx hb dX7_number_85 (by decide) ?_
              refine lv_iload_n hx hb dX7_number_86 rfl (lv_at hl 2 rfl) ?_
              have hF9 := va_free (wc := [(o 0, .inr (2, mFs o th p0 q0 r0 mu (zP ln (dE (tx fT) ln at_) (nI 0) ea vs wn op_ bw bb bp uf wr_)))]) hD hS (fun q h => hA q h) [0] rfl
              refine c_v (wr := [(o 7, .inl (dA 2, 200, .inl fT))]) (va_runV (As := [.int (nI 2), .int (nI at_)]) (rest := []) ⟨hx, hb, hml, hown, hts⟩ (x7_fails Z (va_A [(o 0, .inr (2, mFs o th p0 q0 r0 mu (zP ln (dE (tx fT) ln at_) (nI 0) ea vs wn op_ bw bb bp uf wr_)))] H.size) H.size (fun q h => Or.inr h) o th p0 q0 r0 mu ln (dE (tx fT) ln at_) (nI 0) ea vs wn op_ bw bb bp uf wr_ (nI 2) (nI at_)) (cwV 2 hts (lw_V q2458 q2460 qs84 q107 q2461) rfl rfl rfl (by decide +kernel) ⟨Nat.le_of_ble_eq_true rfl, Nat.le_of_ble_eq_true rfl⟩) (gP_V (va_recv hK hP (ci := 2) (q0 := 0) rfl rfl) hG hS (fun q _ h => hF9 q h) ⟨rfl, (hP.sub (ws' := [(o 0, .inr (2, mFs o th p0 q0 r0 mu (zP ln (dE (tx fT) ln at_) (nI 0) ea vs wn op_ bw bb bp uf wr_)))]) [0] rfl), (hD.sub (ws' := [(o 0, .inr (2, mFs o th p0 q0 r0 mu (zP ln (dE (tx fT) ln at_) (nI 0) ea vs wn op_ bw bb bp uf wr_)))]) [0] (by decide) rfl).self⟩) rfl rfl hl.1 rfl (lv_room (Nat.le_of_ble_eq_true rfl)) dX7_number_87 ⟨by first | decide | omega, by first | decide | omega⟩) hP hD hS hA [0] [1] rfl rfl (by decide) (by decide) (fun u9 H locs hq hX hz hk hP hD hS => ?_)
              have hP : va_P (dC, dI) vwCl [(o 7, .inl (dA 2, 200, .inl fT)), (o 0, .inr (2, mFs o th p0 q0 r0 mu (zP ln (dE (tx fT) ln at_) (nI 2) (nI at_) vs wn op_ bw bb bp uf wr_)))] H := hP
              have hD : va_D A [(o 7, .inl (dA 2, 200, .inl fT)), (o 0, .inr (2, mFs o th p0 q0 r0 mu (zP ln (dE (tx fT) ln at_) (nI 2) (nI at_) vs wn op_ bw bb bp uf wr_)))] := hD
              refine lv_iload_n hx hb dX7_number_90 rfl (lv_at hl 3 rfl) ?_
              subst hQe
              exact W.iret (v := nI (nv (tx fT) at_ ((dE (tx fT) ln at_) - at_))) hx hb hr (fun tz ht hW => ⟨⟨_, (), rfl, rfl, B1_at ht (by rw [hN9]; exact hP.sub [1, 0] rfl) (by rw [hN9]; exact hD.sub [1, 0] (by decide) rfl) trivial⟩, hS.F ht⟩) hS.2.2 dX7_number_91
        · have hD8 := bI_1 c_24
          have hi8 := D_in rfl hD8
          have hdk := isD_lt hD8
          have hcx : ch (tx fT) ln i = tx fT i := ch_lt hi8
          have hge : i + 1 ≤ dE (tx fT) ln at_ := by rw [← hs9, show dE (tx fT) ln i = dE (tx fT) ln (i + 1) from runE_t hi8 hD8]; exact runE_ge
          have hnv : nv (tx fT) at_ (i - at_) < 100000000 := nv8 (ln := ln) (nv_dE (by omega))
          have hsx : i + 1 - at_ = (i - at_) + 1 := by omega
          have hax : at_ + (i - at_) = i := by omega
          refine lv_aload_n hx hb dX7_number_27 rfl (lv_at hl 0 rfl) ?_
          refine va_get (D := (dC, dI)) (ci := 2) (v := .int (nI i)) (C := RX7) (T := TX7) (N := 27) hx hb hts in_X7 hown hK hP 0 rfl rfl 13 (by decide) (hts _ q2019) (fun _ h9 => h9) rfl dX7_number_28 ?_
          refine lv_iload_n hx hb dX7_number_31 rfl (lv_at hl 2 rfl) ?_
          refine lv_isub hx hb dX7_number_32 ?_
          refine e_i (y := nI (i - at_)) (pk_sub (by omega)) ?_
          refine lv_bipush (v := nI 8) hx hb dX7_number_33 (by decide) ?_
          refine lv_icmp_ge (tgt := 53) hx hb dX7_number_35 (by decide) (fun c_35 => ?_) (fun c_35 => ?_)
          · have c_35 : 8 ≤ (i - at_) := (nI_leI (a := 8) (b := (i - at_)) (by omega) (by omega)).mp c_35
            refine lv_iload_n hx hb dX7_number_53 rfl (lv_at hl 3 rfl) ?_
            refine e_i (y := nI (nv (tx fT) at_ (i + 1 - at_))) (n_eq (by rw [hsx]; show _ = (if i - at_ < 8 then _ else _); rw [if_neg (by omega)])) ?_
            refine lv_istore_n (lv' := [(3, .int (nI (nv (tx fT) at_ (i + 1 - at_)))), (0, .ref (o 0)), (1, .int (nI lst)), (2, .int (nI at_))]) hx hb dX7_number_54 rfl hl (by decide) rfl (fun ls hl => ?_)
            refine lv_aload_n hx hb dX7_number_55 rfl (lv_at hl 1 rfl) ?_
            refine lv_dup hx hb dX7_number_56 rfl ?_
            refine va_get (D := (dC, dI)) (ci := 2) (v := .int (nI i)) (C := RX7) (T := TX7) (N := 27) hx hb hts in_X7 hown hK hP 0 rfl rfl 13 (by decide) (hts _ q2019) (fun _ h9 => h9) rfl dX7_number_57 ?_
            refine lv_iconst (v := nI 1) hx hb dX7_number_60 (by decide) ?_
            refine lv_iadd hx hb dX7_number_61 ?_
            refine e_i (y := nI (i + 1)) (nI_add _ _) ?_
            refine va_put (D := (dC, dI)) (ci := 2) (v := .int (nI (i + 1))) (ty := .int) (C := RX7) (T := TX7) (N := 27) hx hb hts in_X7 tyX7 tyX7_ok nmX7 hown hK hP hD hS 0 rfl rfl 13 (by decide) (hts _ q2019) (fun _ h9 => h9) rfl (by decide +kernel) rfl rfl (Nat.le_of_ble_eq_true rfl) dX7_number_62 (fun H locs hP hD hS => ?_)
            have hP : va_P (dC, dI) vwCl [(o 0, .inr (2, mFs o th p0 q0 r0 mu (zP ln (i + 1) (nI 0) ea vs wn op_ bw bb bp uf wr_))), (o 7, .inl (dA 2, 200, .inl fT))] H := hP
            have hD : va_D A [(o 0, .inr (2, mFs o th p0 q0 r0 mu (zP ln (i + 1) (nI 0) ea vs wn op_ bw bb bp uf wr_))), (o 7, .inl (dA 2, 200, .inl fT))] := hD
            refine lv_goto (tgt := 20) hx hb dX7_number_65 (by decide) ?_
            exact ih_1 (i + 1) H locs ls (by omega) (⟨by omega, by omega⟩) (by rw [← hs9]; exact (runE_t hi8 hD8).symm) (hP.sub [0, 1] rfl) (hD.sub [0, 1] (by decide) rfl) hS (lv_sub hl [1, 2, 3, 0] rfl)
          · have c_35 : ¬ 8 ≤ (i - at_) := fun h => c_35 ((nI_leI (a := 8) (b := (i - at_)) (by omega) (by omega)).mpr h)
            refine lv_bipush (v := nI 10) hx hb dX7_number_38 (by decide) ?_
            refine lv_iload_n hx hb dX7_number_40 rfl (lv_at hl 3 rfl) ?_
            refine lv_imul hx hb dX7_number_41 ?_
            refine e_i (y := nI (10 * (nv (tx fT) at_ (i - at_)))) (pk_mul _ _) ?_
            refine lv_aload_n hx hb dX7_number_42 rfl (lv_at hl 0 rfl) ?_
            refine s_i (va_runV (As := []) (rest := [.int (nI (10 * (nv (tx fT) at_ (i - at_))))]) ⟨hx, hb, hml, hown, hts⟩ (x7_see Z o th p0 q0 r0 mu ln i (nI 0) ea vs wn op_ bw bb bp uf wr_ fT (by omega) (by omega)) (cwV 0 hts (lw_V q2438 q2440 qs79 q107 q2441) rfl rfl rfl (by decide +kernel) ⟨Nat.le_of_ble_eq_true rfl, Nat.le_of_ble_eq_true rfl⟩) (gP_V (va_recv hK hP (ci := 2) (q0 := 0) rfl rfl) hG hS (fun q _ h => h.elim) (hP.sub (ws' := [(o 0, .inr (2, mFs o th p0 q0 r0 mu (zP ln i (nI 0) ea vs wn op_ bw bb bp uf wr_))), (o 7, .inl (dA 2, 200, .inl fT))]) [0, 1] rfl)) rfl rfl hl.1 rfl (lv_room (Nat.le_of_ble_eq_true rfl)) dX7_number_43 ⟨by first | decide | omega, by first | decide | omega⟩) ?_
            refine e_i (y := nI (tx fT i)) ((by rw [hcx]; exact chI_n (tx_lt _ _))) ?_
            refine lv_iadd hx hb dX7_number_46 ?_
            refine e_i (y := nI (10 * (nv (tx fT) at_ (i - at_)) + (tx fT i))) (nI_add _ _) ?_
            refine lv_bipush (v := nI 48) hx hb dX7_number_47 (by decide) ?_
            refine lv_isub hx hb dX7_number_49 ?_
            refine e_i (y := nI (nv (tx fT) at_ (i + 1 - at_))) ((pk_sub (by omega)).trans (n_eq (by rw [hsx]; show _ = (if i - at_ < 8 then _ else _); rw [if_pos (by omega), hax]))) ?_
            refine lv_goto (tgt := 54) hx hb dX7_number_50 (by decide) ?_
            refine lv_istore_n (lv' := [(3, .int (nI (nv (tx fT) at_ (i + 1 - at_)))), (0, .ref (o 0)), (1, .int (nI lst)), (2, .int (nI at_))]) hx hb dX7_number_54 rfl hl (by decide) rfl (fun ls hl => ?_)
            refine lv_aload_n hx hb dX7_number_55 rfl (lv_at hl 1 rfl) ?_
            refine lv_dup hx hb dX7_number_56 rfl ?_
            refine va_get (D := (dC, dI)) (ci := 2) (v := .int (nI i)) (C := RX7) (T := TX7) (N := 27) hx hb hts in_X7 hown hK hP 0 rfl rfl 13 (by decide) (hts _ q2019) (fun _ h9 => h9) rfl dX7_number_57 ?_
            refine lv_iconst (v := nI 1) hx hb dX7_number_60 (by decide) ?_
            refine lv_iadd hx hb dX7_number_61 ?_
            refine e_i (y := nI (i + 1)) (nI_add _ _) ?_
            refine va_put (D := (dC, dI)) (ci := 2) (v := .int (nI (i + 1))) (ty := .int) (C := RX7) (T := TX7) (N := 27) hx hb hts in_X7 tyX7 tyX7_ok nmX7 hown hK hP hD hS 0 rfl rfl 13 (by decide) (hts _ q2019) (fun _ h9 => h9) rfl (by decide +kernel) rfl rfl (Nat.le_of_ble_eq_true rfl) dX7_number_62 (fun H locs hP hD hS => ?_)
            have hP : va_P (dC, dI) vwCl [(o 0, .inr (2, mFs o th p0 q0 r0 mu (zP ln (i + 1) (nI 0) ea vs wn op_ bw bb bp uf wr_))), (o 7, .inl (dA 2, 200, .inl fT))] H := hP
            have hD : va_D A [(o 0, .inr (2, mFs o th p0 q0 r0 mu (zP ln (i + 1) (nI 0) ea vs wn op_ bw bb bp uf wr_))), (o 7, .inl (dA 2, 200, .inl fT))] := hD
            refine lv_goto (tgt := 20) hx hb dX7_number_65 (by decide) ?_
            exact ih_1 (i + 1) H locs ls (by omega) (⟨by omega, by omega⟩) (by rw [← hs9]; exact (runE_t hi8 hD8).symm) (hP.sub [0, 1] rfl) (hD.sub [0, 1] (by decide) rfl) hS (lv_sub hl [1, 2, 3, 0] rfl)
    exact loop_1 _ at_ s.heap [] ls (Nat.lt_succ_self _) (⟨Nat.le_refl _, ha9⟩) rfl hP hD hS (lv_sub hl [2, 3, 1, 0] rfl)
  · have hD9 := bI_0 c_11
    have hdE : dE (tx fT) ln at_ = at_ := runE_f hD9
    have hN9 : numE (tx fT) ln lst at_ = 1 := by unfold numE; rw [hD9]; rfl
    have hV9 : numV (tx fT) ln at_ = 0 := by unfold numV; rw [hdE, Nat.sub_self]; rfl
    refine lv_aload_n hx hb dX7_number_14 rfl (lv_at hl 2 rfl) ?_
    refine lv_iconst (v := nI 1) hx hb dX7_number_15 (by decide) ?_
    refine lv_iload_n hx hb dX7_number_16 rfl (lv_at hl 1 rfl) ?_
    have hF9 := va_free (wc := [(o 0, .inr (2, mFs o th p0 q0 r0 mu (zP ln at_ (nI 0) ea vs wn op_ bw bb bp uf wr_)))]) hD hS (fun q h => hA q h) [0] rfl
    refine c_v (wr := [(o 7, .inl (dA 2, 200, .inl fT))]) (va_runV (As := [.int (nI 1), .int (nI at_)]) (rest := []) ⟨hx, hb, hml, hown, hts⟩ (x7_fails Z (va_A [(o 0, .inr (2, mFs o th p0 q0 r0 mu (zP ln at_ (nI 0) ea vs wn op_ bw bb bp uf wr_)))] s.heap.size) s.heap.size (fun q h => Or.inr h) o th p0 q0 r0 mu ln at_ (nI 0) ea vs wn op_ bw bb bp uf wr_ (nI 1) (nI at_)) (cwV 2 hts (lw_V q2458 q2460 qs84 q107 q2461) rfl rfl rfl (by decide +kernel) ⟨Nat.le_of_ble_eq_true rfl, Nat.le_of_ble_eq_true rfl⟩) (gP_V (va_recv hK hP (ci := 2) (q0 := 0) rfl rfl) hG hS (fun q _ h => hF9 q h) ⟨rfl, (hP.sub (ws' := [(o 0, .inr (2, mFs o th p0 q0 r0 mu (zP ln at_ (nI 0) ea vs wn op_ bw bb bp uf wr_)))]) [0] rfl), (hD.sub (ws' := [(o 0, .inr (2, mFs o th p0 q0 r0 mu (zP ln at_ (nI 0) ea vs wn op_ bw bb bp uf wr_)))]) [0] (by decide) rfl).self⟩) rfl rfl hl.1 rfl (lv_room (Nat.le_of_ble_eq_true rfl)) dX7_number_17 ⟨by first | decide | omega, by first | decide | omega⟩) hP hD hS hA [0] [1] rfl rfl (by decide) (by decide) (fun u9 H locs hq hX hz hk hP hD hS => ?_)
    have hP : va_P (dC, dI) vwCl [(o 7, .inl (dA 2, 200, .inl fT)), (o 0, .inr (2, mFs o th p0 q0 r0 mu (zP ln at_ (nI 1) (nI at_) vs wn op_ bw bb bp uf wr_)))] H := hP
    have hD : va_D A [(o 7, .inl (dA 2, 200, .inl fT)), (o 0, .inr (2, mFs o th p0 q0 r0 mu (zP ln at_ (nI 1) (nI at_) vs wn op_ bw bb bp uf wr_)))] := hD
    refine lv_aload_n hx hb dX7_number_20 rfl (lv_at hl 2 rfl) ?_
    refine s_i (va_runV (As := []) (rest := []) ⟨hx, hb, hml, hown, hts⟩ (x7_isDigit Z o th p0 q0 r0 mu ln at_ (nI 1) (nI at_) vs wn op_ bw bb bp uf wr_ fT (by omega) (by omega)) (cwV 0 hts (lw_V q2446 q2448 qs81 q107 q2449) rfl rfl rfl (by decide +kernel) ⟨Nat.le_of_ble_eq_true rfl, Nat.le_of_ble_eq_true rfl⟩) (gP_V (va_recv hK hP (ci := 2) (q0 := 1) rfl rfl) hG hS (fun q _ h => h.elim) (hP.sub (ws' := [(o 0, .inr (2, mFs o th p0 q0 r0 mu (zP ln at_ (nI 1) (nI at_) vs wn op_ bw bb bp uf wr_))), (o 7, .inl (dA 2, 200, .inl fT))]) [1, 0] rfl)) rfl rfl hl.1 rfl (lv_room (Nat.le_of_ble_eq_true rfl)) dX7_number_21 ⟨by first | decide | omega, by first | decide | omega⟩) ?_
    refine lv_if_eq (tgt := 68) hx hb dX7_number_24 (by decide) (fun c_24 => ?_) (fun c_24 => ?_)
    · refine lv_aload_n hx hb dX7_number_68 rfl (lv_at hl 2 rfl) ?_
      refine va_get (D := (dC, dI)) (ci := 2) (v := .int (nI at_)) (C := RX7) (T := TX7) (N := 27) hx hb hts in_X7 hown hK hP 1 rfl rfl 13 (by decide) (hts _ q2019) (fun _ h9 => h9) rfl dX7_number_69 ?_
      refine lv_iload_n hx hb dX7_number_72 rfl (lv_at hl 1 rfl) ?_
      refine lv_isub hx hb dX7_number_73 ?_
      refine e_i (y := nI (at_ - at_)) (pk_sub (by omega)) ?_
      refine lv_bipush (v := nI 8) hx hb dX7_number_74 (by decide) ?_
      refine lv_icmp_gt (tgt := 84) hx hb dX7_number_76 (by decide) (fun c_76 => ?_) (fun c_76 => ?_)
      · have c_76 : 8 < (at_ - at_) := (nI_ltI (a := 8) (b := (at_ - at_)) (by omega) (by omega)).mp c_76
        refine lv_aload_n hx hb dX7_number_84 rfl (lv_at hl 2 rfl) ?_
        refine lv_iconst (v := nI 2) hx hb dX7_number_85 (by decide) ?_
        refine lv_iload_n hx hb dX7_number_86 rfl (lv_at hl 1 rfl) ?_
        have hF9 := va_free (wc := [(o 0, .inr (2, mFs o th p0 q0 r0 mu (zP ln at_ (nI 1) (nI at_) vs wn op_ bw bb bp uf wr_)))]) hD hS (fun q h => hA q h) [1] rfl
        refine c_v (wr := [(o 7, .inl (dA 2, 200, .inl fT))]) (va_runV (As := [.int (nI 2), .int (nI at_)]) (rest := []) ⟨hx, hb, hml, hown, hts⟩ (x7_fails Z (va_A [(o 0, .inr (2, mFs o th p0 q0 r0 mu (zP ln at_ (nI 1) (nI at_) vs wn op_ bw bb bp uf wr_)))] H.size) H.size (fun q h => Or.inr h) o th p0 q0 r0 mu ln at_ (nI 1) (nI at_) vs wn op_ bw bb bp uf wr_ (nI 2) (nI at_)) (cwV 2 hts (lw_V q2458 q2460 qs84 q107 q2461) rfl rfl rfl (by decide +kernel) ⟨Nat.le_of_ble_eq_true rfl, Nat.le_of_ble_eq_true rfl⟩) (gP_V (va_recv hK hP (ci := 2) (q0 := 1) rfl rfl) hG hS (fun q _ h => hF9 q h) ⟨rfl, (hP.sub (ws' := [(o 0, .inr (2, mFs o th p0 q0 r0 mu (zP ln at_ (nI 1) (nI at_) vs wn op_ bw bb bp uf wr_)))]) [1] rfl), (hD.sub (ws' := [(o 0, .inr (2, mFs o th p0 q0 r0 mu (zP ln at_ (nI 1) (nI at_) vs wn op_ bw bb bp uf wr_)))]) [1] (by decide) rfl).self⟩) rfl rfl hl.1 rfl (lv_room (Nat.le_of_ble_eq_true rfl)) dX7_number_87 ⟨by first | decide | omega, by first | decide | omega⟩) hP hD hS hA [1] [0] rfl rfl (by decide) (by decide) (fun u9 H locs hq hX hz hk hP hD hS => ?_)
        have hP : va_P (dC, dI) vwCl [(o 7, .inl (dA 2, 200, .inl fT)), (o 0, .inr (2, mFs o th p0 q0 r0 mu (zP ln at_ (nI 1) (nI at_) vs wn op_ bw bb bp uf wr_)))] H := hP
        have hD : va_D A [(o 7, .inl (dA 2, 200, .inl fT)), (o 0, .inr (2, mFs o th p0 q0 r0 mu (zP ln at_ (nI 1) (nI at_) vs wn op_ bw bb bp uf wr_)))] := hD
        refine lv_iload_n hx hb dX7_number_90 rfl (lv_at hl 0 rfl) ?_
        subst hQe
        exact W.iret (v := nI 0) hx hb hr (fun tz ht hW => ⟨⟨_, (), rfl, (by rw [hV9]), B1_at ht (by rw [hN9, hdE]; exact hP.sub [1, 0] rfl) (by rw [hN9, hdE]; exact hD.sub [1, 0] (by decide) rfl) trivial⟩, hS.F ht⟩) hS.2.2 dX7_number_91
      · have c_76 : ¬ 8 < (at_ - at_) := fun h => c_76 ((nI_ltI (a := 8) (b := (at_ - at_)) (by omega) (by omega)).mpr h)
        refine lv_iload_n hx hb dX7_number_79 rfl (lv_at hl 0 rfl) ?_
        refine lv_iload_n hx hb dX7_number_80 rfl (lv_at hl 3 rfl) ?_
        refine lv_icmp_ge (tgt := 90) hx hb dX7_number_81 (by decide) (fun c_81 => ?_) (fun c_81 => ?_)
        · have c_81 : lst ≤ 0 := (nI_leI (a := lst) (b := 0) (by omega) (by omega)).mp c_81
          refine lv_iload_n hx hb dX7_number_90 rfl (lv_at hl 0 rfl) ?_
          subst hQe
          exact W.iret (v := nI 0) hx hb hr (fun tz ht hW => ⟨⟨_, (), rfl, (by rw [hV9]), B1_at ht (by rw [hN9, hdE]; exact hP.sub [1, 0] rfl) (by rw [hN9, hdE]; exact hD.sub [1, 0] (by decide) rfl) trivial⟩, hS.F ht⟩) hS.2.2 dX7_number_91
        · have c_81 : ¬ lst ≤ 0 := fun h => c_81 ((nI_leI (a := lst) (b := 0) (by omega) (by omega)).mpr h)
          refine lv_aload_n hx hb dX7_number_84 rfl (lv_at hl 2 rfl) ?_
          refine lv_iconst (v := nI 2) hx hb dX7_number_85 (by decide) ?_
          refine lv_iload_n hx hb dX7_number_86 rfl (lv_at hl 1 rfl) ?_
          have hF9 := va_free (wc := [(o 0, .inr (2, mFs o th p0 q0 r0 mu (zP ln at_ (nI 1) (nI at_) vs wn op_ bw bb bp uf wr_)))]) hD hS (fun q h => hA q h) [1] rfl
          refine c_v (wr := [(o 7, .inl (dA 2, 200, .inl fT))]) (va_runV (As := [.int (nI 2), .int (nI at_)]) (rest := []) ⟨hx, hb, hml, hown, hts⟩ (x7_fails Z (va_A [(o 0, .inr (2, mFs o th p0 q0 r0 mu (zP ln at_ (nI 1) (nI at_) vs wn op_ bw bb bp uf wr_)))] H.size) H.size (fun q h => Or.inr h) o th p0 q0 r0 mu ln at_ (nI 1) (nI at_) vs wn op_ bw bb bp uf wr_ (nI 2) (nI at_)) (cwV 2 hts (lw_V q2458 q2460 qs84 q107 q2461) rfl rfl rfl (by decide +kernel) ⟨Nat.le_of_ble_eq_true rfl, Nat.le_of_ble_eq_true rfl⟩) (gP_V (va_recv hK hP (ci := 2) (q0 := 1) rfl rfl) hG hS (fun q _ h => hF9 q h) ⟨rfl, (hP.sub (ws' := [(o 0, .inr (2, mFs o th p0 q0 r0 mu (zP ln at_ (nI 1) (nI at_) vs wn op_ bw bb bp uf wr_)))]) [1] rfl), (hD.sub (ws' := [(o 0, .inr (2, mFs o th p0 q0 r0 mu (zP ln at_ (nI 1) (nI at_) vs wn op_ bw bb bp uf wr_)))]) [1] (by decide) rfl).self⟩) rfl rfl hl.1 rfl (lv_room (Nat.le_of_ble_eq_true rfl)) dX7_number_87 ⟨by first | decide | omega, by first | decide | omega⟩) hP hD hS hA [1] [0] rfl rfl (by decide) (by decide) (fun u9 H locs hq hX hz hk hP hD hS => ?_)
          have hP : va_P (dC, dI) vwCl [(o 7, .inl (dA 2, 200, .inl fT)), (o 0, .inr (2, mFs o th p0 q0 r0 mu (zP ln at_ (nI 1) (nI at_) vs wn op_ bw bb bp uf wr_)))] H := hP
          have hD : va_D A [(o 7, .inl (dA 2, 200, .inl fT)), (o 0, .inr (2, mFs o th p0 q0 r0 mu (zP ln at_ (nI 1) (nI at_) vs wn op_ bw bb bp uf wr_)))] := hD
          refine lv_iload_n hx hb dX7_number_90 rfl (lv_at hl 0 rfl) ?_
          subst hQe
          exact W.iret (v := nI 0) hx hb hr (fun tz ht hW => ⟨⟨_, (), rfl, (by rw [hV9]), B1_at ht (by rw [hN9, hdE]; exact hP.sub [1, 0] rfl) (by rw [hN9, hdE]; exact hD.sub [1, 0] (by decide) rfl) trivial⟩, hS.F ht⟩) hS.2.2 dX7_number_91
    · exact absurd hD9 (by rw [bI_1 c_24]; decide)
