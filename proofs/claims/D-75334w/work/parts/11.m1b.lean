theorem isub_eq {i j k : Nat} (hi : i < 2 ^ 30) (hj : j < 2 ^ 30) (hk : k < 2 ^ 30) (h : nI k = nI j - nI i) : k + i = j := by
  have h1 : (nI k).toInt = (nI j - nI i).toInt := by rw [h]
  rw [nI_toInt (by omega), pk_sub_toInt hj hi] at h1
  omega
set_option maxHeartbeats 4000000 in
theorem x7_refuses {l : Launch} {dC : Nat → ClassId} {dI : Nat → Nat → Nat} {dA : Nat → ClassId} {s0 : State} {b0 : Addr} (Z : Z0 l dC dI dA s0 b0) (A : Nat → Prop) (sz : Nat) (hA : ∀ q : Nat, sz ≤ q → A q) (o : Nat → Nat) (th : Int32) (p0 q0 r0 : Nat) (mu : Int64) (zz : Nat → Int32) (v : Int32) : Met l yX7_refuses (ws_ yX7_refuses cX7_refuses 2 (some .int)) ({ frames := 1, cells := 0, slots := 0, locals := 60 } : Room) (gP [.ref (o 0), .int v] s0 A (fun H => H.size = sz ∧ va_P (dC, dI) vwCl [(o 0, .inr (2, mFs o th p0 q0 r0 mu zz))] H ∧ va_D A [(o 0, .inr (2, mFs o th p0 q0 r0 mu zz))])) (va_Qi (S := Unit) (fun r _ => r = nI 0) (B1 (dC, dI) A (fun _ => [(o 0, .inr (2, mFs o v p0 q0 r0 mu zz))]) (fun _ _ => True)) A) 0 0 A := by
  refine Met.ofW (cc := cX7_refuses) (maxL := 2) (ret := (some .int)) (by decide) rfl ?_
  intro p e s m args below meth c s₁ B hml hv
  obtain ⟨hav, hG, hsz, hP, hD⟩ := hv
  have hx := B.exec
  have hb := B.bytes
  have hr := B.returns
  have hts := atoms_spec (ws := (ws_ yX7_refuses cX7_refuses 2 (some .int))) B.pre
  have hts : ∀ w ∈ lw_all, w.before _ s = true := fun w h => hts w (List.mem_cons_of_mem _ h)
  have hown : s.vm.findClass RX7 = some m.cls := findClass_of_methodNamed B.named
  have hlocks := B.notSynchronized
  have hK := hG.K Z
  subst hsz
  have hS : va_S A s.heap s.heap [] := va_S.rf
  have hl := lv_entry ([.ref (o 0), .int v]) (n := 2) (Nat.le_of_ble_eq_true rfl)
  rw [show entryFrame m args 2 = entryFrame m ([.ref (o 0), .int v] : List Value).toArray 2 from by rw [hav], lg_entry_eq]
  generalize (lg_sl ([.ref (o 0), .int v]) ++ List.replicate (2 - (lg_sl ([.ref (o 0), .int v])).length) Slot.unset).toArray = ls at hl ⊢
  have hl : lv_has ls 2 [(0, .ref (o 0)), (1, .int v)] := hl
  generalize hQe : MQ below _ _ s _ _ _ = Q
  change W p l e ({ frames := 1, cells := 0, slots := 0, locals := 60 } : Room) s m args below meth c s.heap [] 0 0 Q (F0 m 0 ls [])
  refine lv_aload_n hx hb dX7_refuses_0 rfl (lv_at hl 0 rfl) ?_
  refine lv_iload_n hx hb dX7_refuses_1 rfl (lv_at hl 1 rfl) ?_
  refine va_put (D := (dC, dI)) (ci := 2) (v := .int v) (ty := .int) (C := RX7) (T := TX7) (N := 27) hx hb hts in_X7 tyX7 tyX7_ok nmX7 hown hK hP hD hS 0 rfl rfl 0 (by decide) (hts _ q2006) (fun _ h9 => h9) rfl (by decide +kernel) rfl rfl (Nat.le_of_ble_eq_true rfl) dX7_refuses_2 (fun H locs hP hD hS => ?_)
  have hP : va_P (dC, dI) vwCl [(o 0, .inr (2, mFs o v p0 q0 r0 mu zz))] H := hP
  have hD : va_D A [(o 0, .inr (2, mFs o v p0 q0 r0 mu zz))] := hD
  refine lv_iconst (v := nI 0) hx hb dX7_refuses_5 (by decide) ?_
  subst hQe
  exact W.iret (v := nI 0) hx hb hr (fun t ht hW => ⟨⟨_, (), rfl, rfl, B1_at ht (hP.sub [0] rfl) (hD.sub [0] (by decide) rfl) trivial⟩, hS.F ht⟩) hS.2.2 dX7_refuses_6
set_option maxHeartbeats 4000000 in
theorem x7_clearsMade {l : Launch} {dC : Nat → ClassId} {dI : Nat → Nat → Nat} {dA : Nat → ClassId} {s0 : State} {b0 : Addr} (Z : Z0 l dC dI dA s0 b0) (A : Nat → Prop) (sz : Nat) (hA : ∀ q : Nat, sz ≤ q → A q) (o : Nat → Nat) (th : Int32) (p0 q0 r0 : Nat) (mu : Int64) (zz : Nat → Int32) (fA fM : Nat → Int64) : Met l yX7_clearsMade (ws_ yX7_clearsMade cX7_clearsMade 2 none) ({ frames := 1, cells := 0, slots := 0, locals := 60 } : Room) (gP [.ref (o 0)] s0 A (fun H => H.size = sz ∧ va_P (dC, dI) vwCl [(o 0, .inr (2, mFs o th p0 q0 r0 mu zz)), (o 5, .inl (dA 1, 2640, .inr (.inl fA))), (o 6, .inl (dA 1, 32, .inr (.inl fM)))] H ∧ va_D A [(o 0, .inr (2, mFs o th p0 q0 r0 mu zz)), (o 5, .inl (dA 1, 2640, .inr (.inl fA))), (o 6, .inl (dA 1, 32, .inr (.inl fM)))])) (va_Qv (S := Unit) (fun _ => True) (B1 (dC, dI) A (fun _ => mC dA o th p0 q0 r0 1 zz fA (fun _ => 0)) (fun _ _ => True)) A) 0 0 A := by
  refine Met.ofW (cc := cX7_clearsMade) (maxL := 2) (ret := none) (by decide) rfl ?_
  intro p e s m args below meth c s₁ B hml hv
  obtain ⟨hav, hG, hsz, hP, hD⟩ := hv
  have hx := B.exec
  have hb := B.bytes
  have hr := B.returns
  have hts := atoms_spec (ws := (ws_ yX7_clearsMade cX7_clearsMade 2 none)) B.pre
  have hts : ∀ w ∈ lw_all, w.before _ s = true := fun w h => hts w (List.mem_cons_of_mem _ h)
  have hown : s.vm.findClass RX7 = some m.cls := findClass_of_methodNamed B.named
  have hlocks := B.notSynchronized
  have hK := hG.K Z
  subst hsz
  have hS : va_S A s.heap s.heap [] := va_S.rf
  have hl := lv_entry ([.ref (o 0)]) (n := 2) (Nat.le_of_ble_eq_true rfl)
  rw [show entryFrame m args 2 = entryFrame m ([.ref (o 0)] : List Value).toArray 2 from by rw [hav], lg_entry_eq]
  generalize (lg_sl ([.ref (o 0)]) ++ List.replicate (2 - (lg_sl ([.ref (o 0)])).length) Slot.unset).toArray = ls at hl ⊢
  have hl : lv_has ls 2 [(0, .ref (o 0))] := hl
  generalize hQe : MQ below _ _ s _ _ _ = Q
  change W p l e ({ frames := 1, cells := 0, slots := 0, locals := 60 } : Room) s m args below meth c s.heap [] 0 0 Q (F0 m 0 ls [])
  refine lv_iconst (v := nI 0) hx hb dX7_clearsMade_0 (by decide) ?_
  refine lv_istore_n (lv' := [(1, .int (nI 0)), (0, .ref (o 0))]) hx hb dX7_clearsMade_1 rfl hl (by decide) rfl (fun ls hl => ?_)
  have e9 : fM = wrS fM 0 0 (fun _ => 0) := (wr_0 _ _ _).symm
  rw [e9] at hP hD; clear e9
  have loop_1 : ∀ (n9 : Nat) (k : Nat) (H : Heap) (locs : List Loc) (ls : Array Slot), 32 - k < n9 → (k ≤ 32) → va_P (dC, dI) vwCl [(o 0, .inr (2, mFs o th p0 q0 r0 mu zz)), (o 5, .inl (dA 1, 2640, .inr (.inl fA))), (o 6, .inl (dA 1, 32, .inr (.inl (wrS fM 0 k (fun _ => 0)))))] H → va_D A [(o 0, .inr (2, mFs o th p0 q0 r0 mu zz)), (o 5, .inl (dA 1, 2640, .inr (.inl fA))), (o 6, .inl (dA 1, 32, .inr (.inl (wrS fM 0 k (fun _ => 0)))))] → va_S A s.heap H locs → lv_has ls 2 [(0, .ref (o 0)), (1, .int (nI k))] → W p l e ({ frames := 1, cells := 0, slots := 0, locals := 60 } : Room) s m args below meth c H locs 0 0 Q (F0 m 2 ls []) := by
    intro n9
    induction n9 with
    | zero => intro k H locs ls hm; exact absurd hm (Nat.not_lt_zero _)
    | succ n9 ih =>
      intro k H locs ls hm hk9 hP hD hS hl
      refine lv_iload_n hx hb dX7_clearsMade_2 rfl (lv_at hl 1 rfl) ?_
      refine lv_bipush (v := nI 32) hx hb dX7_clearsMade_3 (by decide) ?_
      refine lv_icmp_ge (tgt := 21) hx hb dX7_clearsMade_5 (by decide) (fun c_5 => ?_) (fun c_5 => ?_)
      · have c_5 : 32 ≤ k := (nI_leI (a := 32) (b := k) (by omega) (by omega)).mp c_5
        have hP := P_L hP 2 (fun _ => 0) rfl (fun j hj => by rw [wr_in (by omega) (by omega)])
        have hD := va_D.set (e := .inl (dA 1, 32, .inr (.inl (fun _ => 0)))) hD (p := 2) rfl
        have hP : va_P (dC, dI) vwCl [(o 0, .inr (2, mFs o th p0 q0 r0 mu zz)), (o 5, .inl (dA 1, 2640, .inr (.inl fA))), (o 6, .inl (dA 1, 32, .inr (.inl (fun _ => 0))))] H := hP
        have hD : va_D A [(o 0, .inr (2, mFs o th p0 q0 r0 mu zz)), (o 5, .inl (dA 1, 2640, .inr (.inl fA))), (o 6, .inl (dA 1, 32, .inr (.inl (fun _ => 0))))] := hD
        refine lv_aload_n hx hb dX7_clearsMade_21 rfl (lv_at hl 0 rfl) ?_
        refine lv_lconst (v := 1) hx hb dX7_clearsMade_22 rfl ?_
        refine va_put (D := (dC, dI)) (ci := 2) (v := .long 1) (ty := .long) (C := RX7) (T := TX7) (N := 27) hx hb hts in_X7 tyX7 tyX7_ok nmX7 hown hK hP hD hS 0 rfl rfl 10 (by decide) (hts _ q2016) (fun _ h9 => h9) rfl (by decide +kernel) rfl rfl (Nat.le_of_ble_eq_true rfl) dX7_clearsMade_23 (fun H locs hP hD hS => ?_)
        have hP : va_P (dC, dI) vwCl [(o 0, .inr (2, mFs o th p0 q0 r0 1 zz)), (o 5, .inl (dA 1, 2640, .inr (.inl fA))), (o 6, .inl (dA 1, 32, .inr (.inl (fun _ => 0))))] H := hP
        have hD : va_D A [(o 0, .inr (2, mFs o th p0 q0 r0 1 zz)), (o 5, .inl (dA 1, 2640, .inr (.inl fA))), (o 6, .inl (dA 1, 32, .inr (.inl (fun _ => 0))))] := hD
        subst hQe
        exact W.vret hx hb hr (fun t ht hW => ⟨⟨(), rfl, trivial, B1_at ht (hP.sub [0, 1, 2] rfl) (hD.sub [0, 1, 2] (by decide) rfl) trivial⟩, hS.F ht⟩) hS.2.2 dX7_clearsMade_26
      · have c_5 : ¬ 32 ≤ k := fun h => c_5 ((nI_leI (a := 32) (b := k) (by omega) (by omega)).mpr h)
        refine lv_aload_n hx hb dX7_clearsMade_8 rfl (lv_at hl 0 rfl) ?_
        refine va_get (D := (dC, dI)) (ci := 2) (v := .ref (o 6)) (C := RX7) (T := TX7) (N := 27) hx hb hts in_X7 hown hK hP 0 rfl rfl 9 (by decide) (hts _ q2015) (fun _ h9 => h9) rfl dX7_clearsMade_9 ?_
        refine lv_iload_n hx hb dX7_clearsMade_12 rfl (lv_at hl 1 rfl) ?_
        refine lv_lconst (v := 0) hx hb dX7_clearsMade_13 rfl ?_
        refine a_last hx hb hK hP hD hS 2 1 rfl rfl (by omega) (by omega) dX7_clearsMade_14 (fun H locs hP hD hS => ?_)
        have hP : va_P (dC, dI) vwCl [(o 0, .inr (2, mFs o th p0 q0 r0 mu zz)), (o 5, .inl (dA 1, 2640, .inr (.inl fA))), (o 6, .inl (dA 1, 32, .inr (.inl (vp_updL (wrS fM 0 k (fun _ => 0)) k 0))))] H := hP
        have hD : va_D A [(o 0, .inr (2, mFs o th p0 q0 r0 mu zz)), (o 5, .inl (dA 1, 2640, .inr (.inl fA))), (o 6, .inl (dA 1, 32, .inr (.inl (vp_updL (wrS fM 0 k (fun _ => 0)) k 0))))] := hD
        have e9 : vp_updL (wrS fM 0 k (fun _ => 0)) k 0 = wrS fM 0 (k + 1) (fun _ => 0) := wr_s (by omega) rfl
        rw [e9] at hP hD; clear e9
        refine lv_iinc (v := nI (k + 1)) (lv' := [(1, .int (nI (k + 1))), (0, .ref (o 0))]) hx hb dX7_clearsMade_15 hl (k := 1) rfl (by exact nI_add _ 1) (by decide) rfl (fun ls hl => ?_)
        refine lv_goto (tgt := 2) hx hb dX7_clearsMade_18 (by decide) ?_
        exact ih (k + 1) H locs ls (by omega) (by omega) (hP.sub [0, 1, 2] rfl) (hD.sub [0, 1, 2] (by decide) rfl) hS (lv_sub hl [1, 0] rfl)
  exact loop_1 _ 0 s.heap [] ls (Nat.lt_succ_self _) (by omega) hP hD hS (lv_sub hl [1, 0] rfl)
set_option maxHeartbeats 4000000 in
theorem x7_copies {l : Launch} {dC : Nat → ClassId} {dI : Nat → Nat → Nat} {dA : Nat → ClassId} {s0 : State} {b0 : Addr} (Z : Z0 l dC dI dA s0 b0) (A : Nat → Prop) (sz : Nat) (hA : ∀ q : Nat, sz ≤ q → A q) (o : Nat → Nat) (th : Int32) (p0 q0 r0 : Nat) (mu : Int64) (zz : Nat → Int32) (fA fM : Nat → Int64) (k1 k2 : Nat) (h1 : k1 < 80) (h2 : k2 < 80) : Met l yX7_copies (ws_ yX7_copies cX7_copies 4 none) ({ frames := 1, cells := 0, slots := 0, locals := 60 } : Room) (gP [.ref (o 0), .int (nI k1), .int (nI k2)] s0 A (fun H => H.size = sz ∧ va_P (dC, dI) vwCl [(o 0, .inr (2, mFs o th p0 q0 r0 mu zz)), (o 5, .inl (dA 1, 2640, .inr (.inl fA)))] H ∧ va_D A [(o 0, .inr (2, mFs o th p0 q0 r0 mu zz)), (o 5, .inl (dA 1, 2640, .inr (.inl fA)))])) (va_Qv (S := Unit) (fun _ => True) (B1 (dC, dI) A (fun _ => [(o 0, .inr (2, mFs o th p0 q0 r0 mu zz)), (o 5, .inl (dA 1, 2640, .inr (.inl (cpS fA k1 k2))))]) (fun _ _ => True)) A) 0 0 A := by
  refine Met.ofW (cc := cX7_copies) (maxL := 4) (ret := none) (by decide) rfl ?_
  intro p e s m args below meth c s₁ B hml hv
  obtain ⟨hav, hG, hsz, hP, hD⟩ := hv
  have hx := B.exec
  have hb := B.bytes
  have hr := B.returns
  have hts := atoms_spec (ws := (ws_ yX7_copies cX7_copies 4 none)) B.pre
  have hts : ∀ w ∈ lw_all, w.before _ s = true := fun w h => hts w (List.mem_cons_of_mem _ h)
  have hown : s.vm.findClass RX7 = some m.cls := findClass_of_methodNamed B.named
  have hlocks := B.notSynchronized
  have hK := hG.K Z
  subst hsz
  have hS : va_S A s.heap s.heap [] := va_S.rf
  have hl := lv_entry ([.ref (o 0), .int (nI k1), .int (nI k2)]) (n := 4) (Nat.le_of_ble_eq_true rfl)
  rw [show entryFrame m args 4 = entryFrame m ([.ref (o 0), .int (nI k1), .int (nI k2)] : List Value).toArray 4 from by rw [hav], lg_entry_eq]
  generalize (lg_sl ([.ref (o 0), .int (nI k1), .int (nI k2)]) ++ List.replicate (4 - (lg_sl ([.ref (o 0), .int (nI k1), .int (nI k2)])).length) Slot.unset).toArray = ls at hl ⊢
  have hl : lv_has ls 4 [(0, .ref (o 0)), (1, .int (nI k1)), (2, .int (nI k2))] := hl
  generalize hQe : MQ below _ _ s _ _ _ = Q
  change W p l e ({ frames := 1, cells := 0, slots := 0, locals := 60 } : Room) s m args below meth c s.heap [] 0 0 Q (F0 m 0 ls [])
  refine lv_iconst (v := nI 0) hx hb dX7_copies_0 (by decide) ?_
  refine lv_istore_n (lv' := [(3, .int (nI 0)), (0, .ref (o 0)), (1, .int (nI k1)), (2, .int (nI k2))]) hx hb dX7_copies_1 rfl hl (by decide) rfl (fun ls hl => ?_)
  have e9 : fA = wrS fA (33 * k2) 0 (fun i => fA (33 * k1 + i)) := (wr_0 _ _ _).symm
  rw [e9] at hP hD; clear e9
  have loop_1 : ∀ (n9 : Nat) (k : Nat) (H : Heap) (locs : List Loc) (ls : Array Slot), 33 - k < n9 → (k ≤ 33) → va_P (dC, dI) vwCl [(o 0, .inr (2, mFs o th p0 q0 r0 mu zz)), (o 5, .inl (dA 1, 2640, .inr (.inl (wrS fA (33 * k2) k (fun i => fA (33 * k1 + i))))))] H → va_D A [(o 0, .inr (2, mFs o th p0 q0 r0 mu zz)), (o 5, .inl (dA 1, 2640, .inr (.inl (wrS fA (33 * k2) k (fun i => fA (33 * k1 + i))))))] → va_S A s.heap H locs → lv_has ls 4 [(0, .ref (o 0)), (1, .int (nI k1)), (2, .int (nI k2)), (3, .int (nI k))] → W p l e ({ frames := 1, cells := 0, slots := 0, locals := 60 } : Room) s m args below meth c H locs 0 0 Q (F0 m 2 ls []) := by
    intro n9
    induction n9 with
    | zero => intro k H locs ls hm; exact absurd hm (Nat.not_lt_zero _)
    | succ n9 ih =>
      intro k H locs ls hm hk9 hP hD hS hl
      refine lv_iload_n hx hb dX7_copies_2 rfl (lv_at hl 3 rfl) ?_
      refine lv_bipush (v := nI 33) hx hb dX7_copies_3 (by decide) ?_
      refine lv_icmp_ge (tgt := 36) hx hb dX7_copies_5 (by decide) (fun c_5 => ?_) (fun c_5 => ?_)
      · have c_5 : 33 ≤ k := (nI_leI (a := 33) (b := k) (by omega) (by omega)).mp c_5
        obtain rfl : k = 33 := by omega
        subst hQe
        exact W.vret hx hb hr (fun t ht hW => ⟨⟨(), rfl, trivial, B1_at ht (hP.sub [0, 1] rfl) (hD.sub [0, 1] (by decide) rfl) trivial⟩, hS.F ht⟩) hS.2.2 dX7_copies_36
      · have c_5 : ¬ 33 ≤ k := fun h => c_5 ((nI_leI (a := 33) (b := k) (by omega) (by omega)).mpr h)
        refine lv_aload_n hx hb dX7_copies_8 rfl (lv_at hl 0 rfl) ?_
        refine va_get (D := (dC, dI)) (ci := 2) (v := .ref (o 5)) (C := RX7) (T := TX7) (N := 27) hx hb hts in_X7 hown hK hP 0 rfl rfl 8 (by decide) (hts _ q2014) (fun _ h9 => h9) rfl dX7_copies_9 ?_
        refine lv_bipush (v := nI 33) hx hb dX7_copies_12 (by decide) ?_
        refine lv_iload_n hx hb dX7_copies_14 rfl (lv_at hl 2 rfl) ?_
        refine lv_imul hx hb dX7_copies_15 ?_
        refine e_i (y := nI (33 * k2)) (pk_mul _ _) ?_
        refine lv_iload_n hx hb dX7_copies_16 rfl (lv_at hl 3 rfl) ?_
        refine lv_iadd hx hb dX7_copies_17 ?_
        refine e_i (y := nI (33 * k2 + k)) (nI_add _ _) ?_
        refine lv_aload_n hx hb dX7_copies_18 rfl (lv_at hl 0 rfl) ?_
        refine va_get (D := (dC, dI)) (ci := 2) (v := .ref (o 5)) (C := RX7) (T := TX7) (N := 27) hx hb hts in_X7 hown hK hP 0 rfl rfl 8 (by decide) (hts _ q2014) (fun _ h9 => h9) rfl dX7_copies_19 ?_
        refine lv_bipush (v := nI 33) hx hb dX7_copies_22 (by decide) ?_
        refine lv_iload_n hx hb dX7_copies_24 rfl (lv_at hl 1 rfl) ?_
        refine lv_imul hx hb dX7_copies_25 ?_
        refine e_i (y := nI (33 * k1)) (pk_mul _ _) ?_
        refine lv_iload_n hx hb dX7_copies_26 rfl (lv_at hl 3 rfl) ?_
        refine lv_iadd hx hb dX7_copies_27 ?_
        refine e_i (y := nI (33 * k1 + k)) (nI_add _ _) ?_
        refine a_lald hx hb hK hP 1 1 rfl rfl (by omega) (by omega) dX7_copies_28 ?_
        refine e_l (y := fA (33 * k1 + k)) ((by by_cases h : k1 = k2; (subst h; exact wr_out (by omega)); exact wr_out (by omega))) ?_
        refine a_last hx hb hK hP hD hS 1 1 rfl rfl (by omega) (by omega) dX7_copies_29 (fun H locs hP hD hS => ?_)
        have hP : va_P (dC, dI) vwCl [(o 0, .inr (2, mFs o th p0 q0 r0 mu zz)), (o 5, .inl (dA 1, 2640, .inr (.inl (vp_updL (wrS fA (33 * k2) k (fun i => fA (33 * k1 + i))) (33 * k2 + k) (fA (33 * k1 + k))))))] H := hP
        have hD : va_D A [(o 0, .inr (2, mFs o th p0 q0 r0 mu zz)), (o 5, .inl (dA 1, 2640, .inr (.inl (vp_updL (wrS fA (33 * k2) k (fun i => fA (33 * k1 + i))) (33 * k2 + k) (fA (33 * k1 + k))))))] := hD
        have e9 : vp_updL (wrS fA (33 * k2) k (fun i => fA (33 * k1 + i))) (33 * k2 + k) (fA (33 * k1 + k)) = wrS fA (33 * k2) (k + 1) (fun i => fA (33 * k1 + i)) := wr_s rfl rfl
        rw [e9] at hP hD; clear e9
        refine lv_iinc (v := nI (k + 1)) (lv' := [(3, .int (nI (k + 1))), (0, .ref (o 0)), (1, .int (nI k1)), (2, .int (nI k2))]) hx hb dX7_copies_30 hl (k := 3) rfl (by exact nI_add _ 1) (by decide) rfl (fun ls hl => ?_)
        refine lv_goto (tgt := 2) hx hb dX7_copies_33 (by decide) ?_
        exact ih (k + 1) H locs ls (by omega) (by omega) (hP.sub [0, 1] rfl) (hD.sub [0, 1] (by decide) rfl) hS (lv_sub hl [1, 2, 3, 0] rfl)
  exact loop_1 _ 0 s.heap [] ls (Nat.lt_succ_self _) (by omega) hP hD hS (lv_sub hl [1, 2, 3, 0] rfl)
set_option maxHeartbeats 4000000 in
theorem x7_terms {l : Launch} {dC : Nat → ClassId} {dI : Nat → Nat → Nat} {dA : Nat → ClassId} {s0 : State} {b0 : Addr} (Z : Z0 l dC dI dA s0 b0) (o : Nat → Nat) (th : Int32) (p0 q0 r0 : Nat) (mu : Int64) (zz : Nat → Int32) (fA : Nat → Int64) (k1 : Nat) (h1 : k1 < 80) : Met l yX7_terms (ws_ yX7_terms cX7_terms 4 (some .int)) ({ frames := 2, cells := 0, slots := 0, locals := 120 } : Room) (gP [.ref (o 0), .int (nI k1)] s0 (fun _ => False) (fun H => va_P (dC, dI) vwCl [(o 0, .inr (2, mFs o th p0 q0 r0 mu zz)), (o 5, .inl (dA 1, 2640, .inr (.inl fA)))] H)) (vp_Si (fun r => r = nI (cntN (fun j => fA (33 * k1 + 1 + j)) 32))) 0 0 (fun _ => False) := by
  refine Met.ofW (cc := cX7_terms) (maxL := 4) (ret := (some .int)) (by decide) rfl ?_
  intro p e s m args below meth c s₁ B hml hv
  obtain ⟨hav, hG, hP⟩ := hv
  have hx := B.exec
  have hb := B.bytes
  have hr := B.returns
  have hts := atoms_spec (ws := (ws_ yX7_terms cX7_terms 4 (some .int))) B.pre
  have hts : ∀ w ∈ lw_all, w.before _ s = true := fun w h => hts w (List.mem_cons_of_mem _ h)
  have hown : s.vm.findClass RX7 = some m.cls := findClass_of_methodNamed B.named
  have hlocks := B.notSynchronized
  have hK := hG.K Z
  have hS : va_S (fun _ => False) s.heap s.heap [] := va_S.rf
  have hl := lv_entry ([.ref (o 0), .int (nI k1)]) (n := 4) (Nat.le_of_ble_eq_true rfl)
  rw [show entryFrame m args 4 = entryFrame m ([.ref (o 0), .int (nI k1)] : List Value).toArray 4 from by rw [hav], lg_entry_eq]
  generalize (lg_sl ([.ref (o 0), .int (nI k1)]) ++ List.replicate (4 - (lg_sl ([.ref (o 0), .int (nI k1)])).length) Slot.unset).toArray = ls at hl ⊢
  have hl : lv_has ls 4 [(0, .ref (o 0)), (1, .int (nI k1))] := hl
  generalize hQe : MQ below _ _ s _ _ _ = Q
  change W p l e ({ frames := 2, cells := 0, slots := 0, locals := 120 } : Room) s m args below meth c s.heap [] 0 0 Q (F0 m 0 ls [])
  refine lv_iconst (v := nI 0) hx hb dX7_terms_0 (by decide) ?_
  refine lv_istore_n (lv' := [(2, .int (nI 0)), (0, .ref (o 0)), (1, .int (nI k1))]) hx hb dX7_terms_1 rfl hl (by decide) rfl (fun ls hl => ?_)
  refine lv_iconst (v := nI 0) hx hb dX7_terms_2 (by decide) ?_
  refine lv_istore_n (lv' := [(3, .int (nI 0)), (2, .int (nI 0)), (0, .ref (o 0)), (1, .int (nI k1))]) hx hb dX7_terms_3 rfl hl (by decide) rfl (fun ls hl => ?_)
  have loop_1 : ∀ (n9 : Nat) (k : Nat) (ls : Array Slot), 32 - k < n9 → (k ≤ 32) → lv_has ls 4 [(0, .ref (o 0)), (1, .int (nI k1)), (2, .int (nI (cntN (fun j => fA (33 * k1 + 1 + j)) k))), (3, .int (nI k))] → W p l e ({ frames := 2, cells := 0, slots := 0, locals := 120 } : Room) s m args below meth c s.heap [] 0 0 Q (F0 m 4 ls []) := by
    intro n9
    induction n9 with
    | zero => intro k ls hm; exact absurd hm (Nat.not_lt_zero _)
    | succ n9 ih =>
      intro k ls hm hk9 hl
      have hc9 := cntN_le (fun j => fA (33 * k1 + 1 + j)) k
      refine lv_iload_n hx hb dX7_terms_4 rfl (lv_at hl 3 rfl) ?_
      refine lv_bipush (v := nI 32) hx hb dX7_terms_5 (by decide) ?_
      refine lv_icmp_ge (tgt := 35) hx hb dX7_terms_7 (by decide) (fun c_7 => ?_) (fun c_7 => ?_)
      · have c_7 : 32 ≤ k := (nI_leI (a := 32) (b := k) (by omega) (by omega)).mp c_7
        obtain rfl : k = 32 := by omega
        refine lv_iload_n hx hb dX7_terms_35 rfl (lv_at hl 2 rfl) ?_
        subst hQe
        exact W.iret (v := nI (cntN (fun j => fA (33 * k1 + 1 + j)) 32)) hx hb hr (fun t ht hW => ⟨_, rfl, rfl, ht⟩) hS.2.2 dX7_terms_36
      · have c_7 : ¬ 32 ≤ k := fun h => c_7 ((nI_leI (a := 32) (b := k) (by omega) (by omega)).mpr h)
        refine lv_iload_n hx hb dX7_terms_10 rfl (lv_at hl 2 rfl) ?_
        refine lv_aload_n hx hb dX7_terms_11 rfl (lv_at hl 0 rfl) ?_
        refine lv_iload_n hx hb dX7_terms_12 rfl (lv_at hl 1 rfl) ?_
        refine lv_iload_n hx hb dX7_terms_13 rfl (lv_at hl 3 rfl) ?_
        refine s_l (va_runV (As := [.int (nI k1), .int (nI k)]) (rest := [.int (nI (cntN (fun j => fA (33 * k1 + 1 + j)) k))]) ⟨hx, hb, hml, hown, hts⟩ (x7_of Z o th p0 q0 r0 mu zz fA k1 k (by omega)) (cwV 2 hts (lw_V q2119 q2121 qs38 q107 q2122) rfl rfl rfl (by decide +kernel) ⟨Nat.le_of_ble_eq_true rfl, Nat.le_of_ble_eq_true rfl⟩) (gP_V (va_recv hK hP (ci := 2) (q0 := 0) rfl rfl) hG hS (fun q _ h => h.elim) (hP.sub (ws' := [(o 0, .inr (2, mFs o th p0 q0 r0 mu zz)), (o 5, .inl (dA 1, 2640, .inr (.inl fA)))]) [0, 1] rfl)) rfl rfl hl.1 rfl (lv_room (Nat.le_of_ble_eq_true rfl)) dX7_terms_14 ⟨by first | decide | omega, by first | decide | omega⟩) ?_
        refine lv_lconst (v := 0) hx hb dX7_terms_17 rfl ?_
        refine W.lcmp hx hb dX7_terms_18 ?_
        refine lv_if_eq (tgt := 26) hx hb dX7_terms_19 (by decide) (fun c_19 => ?_) (fun c_19 => ?_)
        · have c_19 : (fA (33 * k1 + 1 + k)) = 0 := (lg_cmp_eq _ _).mp c_19
          refine lv_iconst (v := nI 0) hx hb dX7_terms_26 (by decide) ?_
          refine lv_iadd hx hb dX7_terms_27 ?_
          refine e_i (y := nI (cntN (fun j => fA (33 * k1 + 1 + j)) k + 0)) (nI_add _ _) ?_
          refine e_i (y := nI (cntN (fun j => fA (33 * k1 + 1 + j)) (k + 1))) (n_eq (Eq.symm (show cntN _ _ + (if fA (33 * k1 + 1 + k) = 0 then 0 else 1) = _ from by rw [if_pos c_19]))) ?_
          refine lv_istore_n (lv' := [(2, .int (nI (cntN (fun j => fA (33 * k1 + 1 + j)) (k + 1)))), (0, .ref (o 0)), (1, .int (nI k1)), (3, .int (nI k))]) hx hb dX7_terms_28 rfl hl (by decide) rfl (fun ls hl => ?_)
          refine lv_iinc (v := nI (k + 1)) (lv' := [(3, .int (nI (k + 1))), (2, .int (nI (cntN (fun j => fA (33 * k1 + 1 + j)) (k + 1)))), (0, .ref (o 0)), (1, .int (nI k1))]) hx hb dX7_terms_29 hl (k := 3) rfl (by exact nI_add _ 1) (by decide) rfl (fun ls hl => ?_)
          refine lv_goto (tgt := 4) hx hb dX7_terms_32 (by decide) ?_
          exact ih (k + 1) ls (by omega) (by omega) (lv_sub hl [2, 3, 1, 0] rfl)
        · have c_19 : ¬ (fA (33 * k1 + 1 + k)) = 0 := fun h => c_19 ((lg_cmp_eq _ _).mpr h)
          refine lv_iconst (v := nI 1) hx hb dX7_terms_22 (by decide) ?_
          refine lv_goto (tgt := 27) hx hb dX7_terms_23 (by decide) ?_
          refine lv_iadd hx hb dX7_terms_27 ?_
          refine e_i (y := nI (cntN (fun j => fA (33 * k1 + 1 + j)) k + 1)) (nI_add _ _) ?_
          refine e_i (y := nI (cntN (fun j => fA (33 * k1 + 1 + j)) (k + 1))) (n_eq (Eq.symm (show cntN _ _ + (if fA (33 * k1 + 1 + k) = 0 then 0 else 1) = _ from by rw [if_neg c_19]))) ?_
          refine lv_istore_n (lv' := [(2, .int (nI (cntN (fun j => fA (33 * k1 + 1 + j)) (k + 1)))), (0, .ref (o 0)), (1, .int (nI k1)), (3, .int (nI k))]) hx hb dX7_terms_28 rfl hl (by decide) rfl (fun ls hl => ?_)
          refine lv_iinc (v := nI (k + 1)) (lv' := [(3, .int (nI (k + 1))), (2, .int (nI (cntN (fun j => fA (33 * k1 + 1 + j)) (k + 1)))), (0, .ref (o 0)), (1, .int (nI k1))]) hx hb dX7_terms_29 hl (k := 3) rfl (by exact nI_add _ 1) (by decide) rfl (fun ls hl => ?_)
          refine lv_goto (tgt := 4) hx hb dX7_terms_32 (by decide) ?_
          exact ih (k + 1) ls (by omega) (by omega) (lv_sub hl [2, 3, 1, 0] rfl)
  exact loop_1 _ 0 ls (Nat.lt_succ_self _) (by omega) (lv_sub hl [2, 3, 1, 0] rfl)
set_option maxHeartbeats 4000000 in
theorem x7_gives {l : Launch} {dC : Nat → ClassId} {dI : Nat → Nat → Nat} {dA : Nat → ClassId} {s0 : State} {b0 : Addr} (Z : Z0 l dC dI dA s0 b0) (A : Nat → Prop) (sz : Nat) (hA : ∀ q : Nat, sz ≤ q → A q) (o : Nat → Nat) (th : Int32) (p0 q0 r0 : Nat) (mu : Int64) (zz : Nat → Int32) (fA fM : Nat → Int64) (k1 k2 : Nat) (h1 : k1 < 80) (h2 : k2 < 80) : Met l yX7_gives (ws_ yX7_gives cX7_gives 3 (some .int)) ({ frames := 3, cells := 0, slots := 0, locals := 180 } : Room) (gP [.ref (o 0), .int (nI k1), .int (nI k2)] s0 A (fun H => H.size = sz ∧ va_P (dC, dI) vwCl [(o 0, .inr (2, mFs o th p0 q0 r0 mu zz)), (o 5, .inl (dA 1, 2640, .inr (.inl fA)))] H ∧ va_D A [(o 0, .inr (2, mFs o th p0 q0 r0 mu zz)), (o 5, .inl (dA 1, 2640, .inr (.inl fA)))])) (va_Qi (S := Unit) (fun r _ => r = nI (cntN (fun j => cpS fA k1 k2 (33 * k2 + 1 + j)) 32)) (B1 (dC, dI) A (fun _ => [(o 0, .inr (2, mFs o (nI 0) p0 q0 r0 mu zz)), (o 5, .inl (dA 1, 2640, .inr (.inl (cpS fA k1 k2))))]) (fun _ _ => True)) A) 0 0 A := by
  refine Met.ofW (cc := cX7_gives) (maxL := 3) (ret := (some .int)) (by decide) rfl ?_
  intro p e s m args below meth c s₁ B hml hv
  obtain ⟨hav, hG, hsz, hP, hD⟩ := hv
  have hx := B.exec
  have hb := B.bytes
  have hr := B.returns
  have hts := atoms_spec (ws := (ws_ yX7_gives cX7_gives 3 (some .int))) B.pre
  have hts : ∀ w ∈ lw_all, w.before _ s = true := fun w h => hts w (List.mem_cons_of_mem _ h)
  have hown : s.vm.findClass RX7 = some m.cls := findClass_of_methodNamed B.named
  have hlocks := B.notSynchronized
  have hK := hG.K Z
  subst hsz
  have hS : va_S A s.heap s.heap [] := va_S.rf
  have hl := lv_entry ([.ref (o 0), .int (nI k1), .int (nI k2)]) (n := 3) (Nat.le_of_ble_eq_true rfl)
  rw [show entryFrame m args 3 = entryFrame m ([.ref (o 0), .int (nI k1), .int (nI k2)] : List Value).toArray 3 from by rw [hav], lg_entry_eq]
  generalize (lg_sl ([.ref (o 0), .int (nI k1), .int (nI k2)]) ++ List.replicate (3 - (lg_sl ([.ref (o 0), .int (nI k1), .int (nI k2)])).length) Slot.unset).toArray = ls at hl ⊢
  have hl : lv_has ls 3 [(0, .ref (o 0)), (1, .int (nI k1)), (2, .int (nI k2))] := hl
  generalize hQe : MQ below _ _ s _ _ _ = Q
  change W p l e ({ frames := 3, cells := 0, slots := 0, locals := 180 } : Room) s m args below meth c s.heap [] 0 0 Q (F0 m 0 ls [])
  refine lv_aload_n hx hb dX7_gives_0 rfl (lv_at hl 0 rfl) ?_
  refine lv_iload_n hx hb dX7_gives_1 rfl (lv_at hl 1 rfl) ?_
  refine lv_iload_n hx hb dX7_gives_2 rfl (lv_at hl 2 rfl) ?_
  have hF9 := va_free (wc := [(o 0, .inr (2, mFs o th p0 q0 r0 mu zz)), (o 5, .inl (dA 1, 2640, .inr (.inl fA)))]) hD hS (fun q h => hA q h) [0, 1] rfl
  refine c_v (wr := []) (va_runV (As := [.int (nI k1), .int (nI k2)]) (rest := []) ⟨hx, hb, hml, hown, hts⟩ (x7_copies Z (va_A [(o 0, .inr (2, mFs o th p0 q0 r0 mu zz)), (o 5, .inl (dA 1, 2640, .inr (.inl fA)))] s.heap.size) s.heap.size (fun q h => Or.inr h) o th p0 q0 r0 mu zz fA (fun _ => 0) k1 k2 (by omega) (by omega)) (cwV 2 hts (lw_V q2185 q2187 qs49 q107 q2188) rfl rfl rfl (by decide +kernel) ⟨Nat.le_of_ble_eq_true rfl, Nat.le_of_ble_eq_true rfl⟩) (gP_V (va_recv hK hP (ci := 2) (q0 := 0) rfl rfl) hG hS (fun q _ h => hF9 q h) ⟨rfl, (hP.sub (ws' := [(o 0, .inr (2, mFs o th p0 q0 r0 mu zz)), (o 5, .inl (dA 1, 2640, .inr (.inl fA)))]) [0, 1] rfl), (hD.sub (ws' := [(o 0, .inr (2, mFs o th p0 q0 r0 mu zz)), (o 5, .inl (dA 1, 2640, .inr (.inl fA)))]) [0, 1] (by decide) rfl).self⟩) rfl rfl hl.1 rfl (lv_room (Nat.le_of_ble_eq_true rfl)) dX7_gives_3 ⟨by first | decide | omega, by first | decide | omega⟩) hP hD hS hA [0, 1] [] rfl rfl (by decide) (by decide) (fun u9 H locs hq hX hz hk hP hD hS => ?_)
  have hP : va_P (dC, dI) vwCl [(o 0, .inr (2, mFs o th p0 q0 r0 mu zz)), (o 5, .inl (dA 1, 2640, .inr (.inl (cpS fA k1 k2))))] H := hP
  have hD : va_D A [(o 0, .inr (2, mFs o th p0 q0 r0 mu zz)), (o 5, .inl (dA 1, 2640, .inr (.inl (cpS fA k1 k2))))] := hD
  refine lv_aload_n hx hb dX7_gives_6 rfl (lv_at hl 0 rfl) ?_
  refine lv_iconst (v := nI 0) hx hb dX7_gives_7 (by decide) ?_
  refine va_put (D := (dC, dI)) (ci := 2) (v := .int (nI 0)) (ty := .int) (C := RX7) (T := TX7) (N := 27) hx hb hts in_X7 tyX7 tyX7_ok nmX7 hown hK hP hD hS 0 rfl rfl 0 (by decide) (hts _ q2006) (fun _ h9 => h9) rfl (by decide +kernel) rfl rfl (Nat.le_of_ble_eq_true rfl) dX7_gives_8 (fun H locs hP hD hS => ?_)
  have hP : va_P (dC, dI) vwCl [(o 0, .inr (2, mFs o (nI 0) p0 q0 r0 mu zz)), (o 5, .inl (dA 1, 2640, .inr (.inl (cpS fA k1 k2))))] H := hP
  have hD : va_D A [(o 0, .inr (2, mFs o (nI 0) p0 q0 r0 mu zz)), (o 5, .inl (dA 1, 2640, .inr (.inl (cpS fA k1 k2))))] := hD
  refine lv_aload_n hx hb dX7_gives_11 rfl (lv_at hl 0 rfl) ?_
  refine lv_iload_n hx hb dX7_gives_12 rfl (lv_at hl 2 rfl) ?_
  refine s_i (va_runV (As := [.int (nI k2)]) (rest := []) ⟨hx, hb, hml, hown, hts⟩ (x7_terms Z o (nI 0) p0 q0 r0 mu zz (cpS fA k1 k2) k2 (by omega)) (cwV 1 hts (lw_V q2189 q2191 qs50 q107 q2192) rfl rfl rfl (by decide +kernel) ⟨Nat.le_of_ble_eq_true rfl, Nat.le_of_ble_eq_true rfl⟩) (gP_V (va_recv hK hP (ci := 2) (q0 := 0) rfl rfl) hG hS (fun q _ h => h.elim) (hP.sub (ws' := [(o 0, .inr (2, mFs o (nI 0) p0 q0 r0 mu zz)), (o 5, .inl (dA 1, 2640, .inr (.inl (cpS fA k1 k2))))]) [0, 1] rfl)) rfl rfl hl.1 rfl (lv_room (Nat.le_of_ble_eq_true rfl)) dX7_gives_13 ⟨by first | decide | omega, by first | decide | omega⟩) ?_
  subst hQe
  exact W.iret (v := nI (cntN (fun j => (cpS fA k1 k2) (33 * k2 + 1 + j)) 32)) hx hb hr (fun t ht hW => ⟨⟨_, (), rfl, rfl, B1_at ht (hP.sub [0, 1] rfl) (hD.sub [0, 1] (by decide) rfl) trivial⟩, hS.F ht⟩) hS.2.2 dX7_gives_16
set_option maxHeartbeats 4000000 in
theorem x7_order {l : Launch} {dC : Nat → ClassId} {dI : Nat → Nat → Nat} {dA : Nat → ClassId} {s0 : State} {b0 : Addr} (Z : Z0 l dC dI dA s0 b0) (a b : Nat) (ha : a < 32) (hb : b < 32) : Met l yX7_order (ws_ yX7_order cX7_order 4 (some .int)) ({ frames := 2, cells := 0, slots := 0, locals := 120 } : Room) (gP [.int (nI a), .int (nI b)] s0 (fun _ => False) (fun H => True)) (vp_Si (fun r => r = ordS a b)) 0 0 (fun _ => False) := by
  refine Met.ofW (cc := cX7_order) (maxL := 4) (ret := (some .int)) (by decide) rfl ?_
  intro p e s m args below meth c s₁ B hml hv
  obtain ⟨hav, hG, hno⟩ := hv
  have hx := B.exec
  have hb := B.bytes
  have hr := B.returns
  have hts := atoms_spec (ws := (ws_ yX7_order cX7_order 4 (some .int))) B.pre
  have hts : ∀ w ∈ lw_all, w.before _ s = true := fun w h => hts w (List.mem_cons_of_mem _ h)
  have hown : s.vm.findClass RX7 = some m.cls := findClass_of_methodNamed B.named
  have hlocks := B.notSynchronized
  have hK := hG.K Z
  have hS : va_S (fun _ => False) s.heap s.heap [] := va_S.rf
  have hP : va_P (dC, dI) vwCl [] s.heap := fun k q h => by simp at h
  have hD : va_D (fun _ => False) [] := ⟨fun i j p q h => by simp at h, fun k q h => by simp at h⟩
  have hl := lv_entry ([.int (nI a), .int (nI b)]) (n := 4) (Nat.le_of_ble_eq_true rfl)
  rw [show entryFrame m args 4 = entryFrame m ([.int (nI a), .int (nI b)] : List Value).toArray 4 from by rw [hav], lg_entry_eq]
  generalize (lg_sl ([.int (nI a), .int (nI b)]) ++ List.replicate (4 - (lg_sl ([.int (nI a), .int (nI b)])).length) Slot.unset).toArray = ls at hl ⊢
  have hl : lv_has ls 4 [(0, .int (nI a)), (1, .int (nI b))] := hl
  generalize hQe : MQ below _ _ s _ _ _ = Q
  change W p l e ({ frames := 2, cells := 0, slots := 0, locals := 120 } : Room) s m args below meth c s.heap [] 0 0 Q (F0 m 0 ls [])
  refine lv_iconst (v := nI 0) hx hb dX7_order_0 (by decide) ?_
  refine lv_istore_n (lv' := [(2, .int (nI 0)), (0, .int (nI a)), (1, .int (nI b))]) hx hb dX7_order_1 rfl hl (by decide) rfl (fun ls hl => ?_)
  refine lv_iconst (v := nI 0) hx hb dX7_order_2 (by decide) ?_
  refine lv_istore_n (lv' := [(3, .int (nI 0)), (2, .int (nI 0)), (0, .int (nI a)), (1, .int (nI b))]) hx hb dX7_order_3 rfl hl (by decide) rfl (fun ls hl => ?_)
  have loop_1 : ∀ (n9 : Nat) (k : Nat) (ls : Array Slot), 5 - k < n9 → (k ≤ 5) → lv_has ls 4 [(0, .int (nI a)), (1, .int (nI b)), (2, .int (nI (swp a b k))), (3, .int (nI k))] → W p l e ({ frames := 2, cells := 0, slots := 0, locals := 120 } : Room) s m args below meth c s.heap [] 0 0 Q (F0 m 4 ls []) := by
    intro n9
    induction n9 with
    | zero => intro k ls hm; exact absurd hm (Nat.not_lt_zero _)
    | succ n9 ih =>
      intro k ls hm hk9 hl
      have hc9 := swp_le (a := a) (by omega) b k
      refine lv_iload_n hx hb dX7_order_4 rfl (lv_at hl 3 rfl) ?_
      refine lv_iconst (v := nI 5) hx hb dX7_order_5 (by decide) ?_
      refine lv_icmp_ge (tgt := 39) hx hb dX7_order_6 (by decide) (fun c_6 => ?_) (fun c_6 => ?_)
      · have c_6 : 5 ≤ k := (nI_leI (a := 5) (b := k) (by omega) (by omega)).mp c_6
        obtain rfl : k = 5 := by omega
        refine lv_iload_n hx hb dX7_order_39 rfl (lv_at hl 2 rfl) ?_
        refine lv_iconst (v := nI 2) hx hb dX7_order_40 (by decide) ?_
        refine lv_irem hx hb dX7_order_41 (nI_ne0 (n := 2) (by omega) (by omega)) ?_
        refine e_i (y := nI ((swp a b 5) % 2)) (pk_rem (by omega) (by omega) (by omega)) ?_
        refine lv_if_ne (tgt := 49) hx hb dX7_order_42 (by decide) (fun c_42 => ?_) (fun c_42 => ?_)
        · have c_42 : ¬ ((swp a b 5) % 2) = 0 := fun h => c_42 ((nI_eq (a := ((swp a b 5) % 2)) (b := 0) (by omega) (by omega)).mpr h)
          refine lv_iconst (v := (-1)) hx hb dX7_order_49 (by decide) ?_
          subst hQe
          exact W.iret (v := (-1)) hx hb hr (fun t ht hW => ⟨_, rfl, (by unfold ordS; rw [if_neg c_42]), ht⟩) hS.2.2 dX7_order_50
        · have c_42 : ((swp a b 5) % 2) = 0 := (nI_eq (a := ((swp a b 5) % 2)) (b := 0) (by omega) (by omega)).mp c_42
          refine lv_iconst (v := nI 1) hx hb dX7_order_45 (by decide) ?_
          refine lv_goto (tgt := 50) hx hb dX7_order_46 (by decide) ?_
          subst hQe
          exact W.iret (v := nI 1) hx hb hr (fun t ht hW => ⟨_, rfl, (by unfold ordS; rw [if_pos c_42]), ht⟩) hS.2.2 dX7_order_50
      · have c_6 : ¬ 5 ≤ k := fun h => c_6 ((nI_leI (a := 5) (b := k) (by omega) (by omega)).mpr h)
        refine lv_iload_n hx hb dX7_order_9 rfl (lv_at hl 2 rfl) ?_
        refine lv_iload_n hx hb dX7_order_10 rfl (lv_at hl 1 rfl) ?_
        refine lv_iload_n hx hb dX7_order_11 rfl (lv_at hl 3 rfl) ?_
        refine lv_ishr hx hb dX7_order_12 ?_
        refine e_i (y := nI (b / 2 ^ k)) (n_shr (by omega) (by omega)) ?_
        refine lv_iconst (v := nI 1) hx hb dX7_order_13 (by decide) ?_
        refine lv_iand hx hb dX7_order_14 ?_
        refine e_i (y := nI ((b / 2 ^ k) &&& 1)) (n_and _ _) ?_
        refine lv_iconst (v := nI 1) hx hb dX7_order_15 (by decide) ?_
        refine lv_icmp_ne (tgt := 30) hx hb dX7_order_16 (by decide) (fun c_16 => ?_) (fun c_16 => ?_)
        · have c_16 : ¬ ((b / 2 ^ k) &&& 1) = 1 := fun h => c_16 ((nI_eq (a := ((b / 2 ^ k) &&& 1)) (b := 1) (Nat.lt_of_le_of_lt Nat.and_le_right (by decide)) (by omega)).mpr h)
          refine lv_iconst (v := nI 0) hx hb dX7_order_30 (by decide) ?_
          refine lv_iadd hx hb dX7_order_31 ?_
          refine e_i (y := nI (swp a b k + 0)) (nI_add _ _) ?_
          refine e_i (y := nI (swp a b (k + 1))) (n_eq (Eq.symm (show swp a b k + (if b / 2 ^ k &&& 1 = 1 then popc (a / 2 ^ (k + 1)) else 0) = _ from by rw [if_neg c_16]))) ?_
          refine lv_istore_n (lv' := [(2, .int (nI (swp a b (k + 1)))), (0, .int (nI a)), (1, .int (nI b)), (3, .int (nI k))]) hx hb dX7_order_32 rfl hl (by decide) rfl (fun ls hl => ?_)
          refine lv_iinc (v := nI (k + 1)) (lv' := [(3, .int (nI (k + 1))), (2, .int (nI (swp a b (k + 1)))), (0, .int (nI a)), (1, .int (nI b))]) hx hb dX7_order_33 hl (k := 3) rfl (by exact nI_add _ 1) (by decide) rfl (fun ls hl => ?_)
          refine lv_goto (tgt := 4) hx hb dX7_order_36 (by decide) ?_
          exact ih (k + 1) ls (by omega) (by omega) (lv_sub hl [2, 3, 1, 0] rfl)
        · have c_16 : ((b / 2 ^ k) &&& 1) = 1 := (nI_eq (a := ((b / 2 ^ k) &&& 1)) (b := 1) (Nat.lt_of_le_of_lt Nat.and_le_right (by decide)) (by omega)).mp c_16
          refine lv_iload_n hx hb dX7_order_19 rfl (lv_at hl 0 rfl) ?_
          refine lv_iload_n hx hb dX7_order_20 rfl (lv_at hl 3 rfl) ?_
          refine lv_iconst (v := nI 1) hx hb dX7_order_21 (by decide) ?_
          refine lv_iadd hx hb dX7_order_22 ?_
          refine e_i (y := nI (k + 1)) (nI_add _ _) ?_
          refine lv_ishr hx hb dX7_order_23 ?_
          refine e_i (y := nI (a / 2 ^ (k + 1))) (n_shr (by omega) (by omega)) ?_
          refine s_i (va_runS (As := [.int (nI (a / 2 ^ (k + 1)))]) (rest := [.int (nI (swp a b k))]) ⟨hx, hb, hml, hown, hts⟩ (x7_size Z (a / 2 ^ (k + 1)) (Nat.lt_of_le_of_lt (Nat.div_le_self _ _) (by omega))) (va_cwS 1 hts (lw_S q2158 q2159 q107 q2160) rfl rfl rfl (by decide +kernel) ⟨Nat.le_of_ble_eq_true rfl, Nat.le_of_ble_eq_true rfl⟩) (gP_S hG hS (fun q _ h => h.elim) trivial) rfl rfl hl.1 rfl (lv_room (Nat.le_of_ble_eq_true rfl)) dX7_order_24 ⟨by first | decide | omega, by first | decide | omega⟩) ?_
          refine lv_goto (tgt := 31) hx hb dX7_order_27 (by decide) ?_
          refine lv_iadd hx hb dX7_order_31 ?_
          refine e_i (y := nI (swp a b k + (popc (a / 2 ^ (k + 1))))) (nI_add _ _) ?_
          refine e_i (y := nI (swp a b (k + 1))) (n_eq (Eq.symm (show swp a b k + (if b / 2 ^ k &&& 1 = 1 then popc (a / 2 ^ (k + 1)) else 0) = _ from by rw [if_pos c_16]))) ?_
          refine lv_istore_n (lv' := [(2, .int (nI (swp a b (k + 1)))), (0, .int (nI a)), (1, .int (nI b)), (3, .int (nI k))]) hx hb dX7_order_32 rfl hl (by decide) rfl (fun ls hl => ?_)
          refine lv_iinc (v := nI (k + 1)) (lv' := [(3, .int (nI (k + 1))), (2, .int (nI (swp a b (k + 1)))), (0, .int (nI a)), (1, .int (nI b))]) hx hb dX7_order_33 hl (k := 3) rfl (by exact nI_add _ 1) (by decide) rfl (fun ls hl => ?_)
          refine lv_goto (tgt := 4) hx hb dX7_order_36 (by decide) ?_
          exact ih (k + 1) ls (by omega) (by omega) (lv_sub hl [2, 3, 1, 0] rfl)
  exact loop_1 _ 0 ls (Nat.lt_succ_self _) (by omega) (lv_sub hl [2, 3, 1, 0] rfl)
set_option maxHeartbeats 4000000 in
theorem x7_signOf {l : Launch} {dC : Nat → ClassId} {dI : Nat → Nat → Nat} {dA : Nat → ClassId} {s0 : State} {b0 : Addr} (Z : Z0 l dC dI dA s0 b0) (o : Nat → Nat) (th : Int32) (p0 q0 r0 : Nat) (mu : Int64) (zz : Nat → Int32) (a b : Nat) (hn : p0 + q0 + r0 ≤ 5) (ha : a < 32) (hb : b < 32) : Met l yX7_signOf (ws_ yX7_signOf cX7_signOf 5 (some .int)) ({ frames := 3, cells := 0, slots := 0, locals := 180 } : Room) (gP [.ref (o 0), .int (nI a), .int (nI b)] s0 (fun _ => False) (fun H => va_P (dC, dI) vwCl [(o 0, .inr (2, mFs o th p0 q0 r0 mu zz))] H)) (vp_Si (fun r => r = sgS p0 q0 r0 a b)) 0 0 (fun _ => False) := by
  refine Met.ofW (cc := cX7_signOf) (maxL := 5) (ret := (some .int)) (by decide) rfl ?_
  intro p e s m args below meth c s₁ B hml hv
  obtain ⟨hav, hG, hP⟩ := hv
  have hx := B.exec
  have hb := B.bytes
  have hr := B.returns
  have hts := atoms_spec (ws := (ws_ yX7_signOf cX7_signOf 5 (some .int))) B.pre
  have hts : ∀ w ∈ lw_all, w.before _ s = true := fun w h => hts w (List.mem_cons_of_mem _ h)
  have hown : s.vm.findClass RX7 = some m.cls := findClass_of_methodNamed B.named
  have hlocks := B.notSynchronized
  have hK := hG.K Z
  have hS : va_S (fun _ => False) s.heap s.heap [] := va_S.rf
  have hl := lv_entry ([.ref (o 0), .int (nI a), .int (nI b)]) (n := 5) (Nat.le_of_ble_eq_true rfl)
  rw [show entryFrame m args 5 = entryFrame m ([.ref (o 0), .int (nI a), .int (nI b)] : List Value).toArray 5 from by rw [hav], lg_entry_eq]
  generalize (lg_sl ([.ref (o 0), .int (nI a), .int (nI b)]) ++ List.replicate (5 - (lg_sl ([.ref (o 0), .int (nI a), .int (nI b)])).length) Slot.unset).toArray = ls at hl ⊢
  have hl : lv_has ls 5 [(0, .ref (o 0)), (1, .int (nI a)), (2, .int (nI b))] := hl
  generalize hQe : MQ below _ _ s _ _ _ = Q
  change W p l e ({ frames := 3, cells := 0, slots := 0, locals := 180 } : Room) s m args below meth c s.heap [] 0 0 Q (F0 m 0 ls [])
  refine lv_iload_n hx hb dX7_signOf_0 rfl (lv_at hl 1 rfl) ?_
  refine lv_iload_n hx hb dX7_signOf_1 rfl (lv_at hl 2 rfl) ?_
  refine s_i (va_runS (As := [.int (nI a), .int (nI b)]) (rest := []) ⟨hx, hb, hml, hown, hts⟩ (x7_order Z a b (by omega) (by omega)) (va_cwS 2 hts (lw_S q2155 q2156 q107 q2157) rfl rfl rfl (by decide +kernel) ⟨Nat.le_of_ble_eq_true rfl, Nat.le_of_ble_eq_true rfl⟩) (gP_S hG hS (fun q _ h => h.elim) trivial) rfl rfl hl.1 rfl (lv_room (Nat.le_of_ble_eq_true rfl)) dX7_signOf_2 ⟨by first | decide | omega, by first | decide | omega⟩) ?_
  refine lv_istore_n (lv' := [(3, .int (ordS a b)), (0, .ref (o 0)), (1, .int (nI a)), (2, .int (nI b))]) hx hb dX7_signOf_5 rfl hl (by decide) rfl (fun ls hl => ?_)
  refine lv_iconst (v := nI 0) hx hb dX7_signOf_6 (by decide) ?_
  refine lv_istore (lv' := [(4, .int (nI 0)), (3, .int (ordS a b)), (0, .ref (o 0)), (1, .int (nI a)), (2, .int (nI b))]) hx hb dX7_signOf_7 hl (by decide) rfl (fun ls hl => ?_)
  have loop_1 : ∀ (n9 : Nat) (k : Nat) (ls : Array Slot), p0 + q0 + r0 - k < n9 → (k ≤ p0 + q0 + r0) → lv_has ls 5 [(0, .ref (o 0)), (1, .int (nI a)), (2, .int (nI b)), (3, .int (sgnM p0 q0 a b k)), (4, .int (nI k))] → W p l e ({ frames := 3, cells := 0, slots := 0, locals := 180 } : Room) s m args below meth c s.heap [] 0 0 Q (F0 m 9 ls []) := by
    intro n9
    induction n9 with
    | zero => intro k ls hm; exact absurd hm (Nat.not_lt_zero _)
    | succ n9 ih =>
      intro k ls hm hk9 hl
      have ha9 := and32 b ha
      refine lv_iload hx hb dX7_signOf_9 (lv_at hl 4 rfl) ?_
      refine lv_aload_n hx hb dX7_signOf_11 rfl (lv_at hl 0 rfl) ?_
      refine s_i (va_runV (As := []) (rest := [.int (nI k)]) ⟨hx, hb, hml, hown, hts⟩ (x7_n Z o th p0 q0 r0 mu zz) (cwV 0 hts (lw_V q2151 q2153 qs44 q107 q2154) rfl rfl rfl (by decide +kernel) ⟨Nat.le_of_ble_eq_true rfl, Nat.le_of_ble_eq_true rfl⟩) (gP_V (va_recv hK hP (ci := 2) (q0 := 0) rfl rfl) hG hS (fun q _ h => h.elim) (hP.sub (ws' := [(o 0, .inr (2, mFs o th p0 q0 r0 mu zz))]) [0] rfl)) rfl rfl hl.1 rfl (lv_room (Nat.le_of_ble_eq_true rfl)) dX7_signOf_12 ⟨by first | decide | omega, by first | decide | omega⟩) ?_
      refine lv_icmp_ge (tgt := 71) hx hb dX7_signOf_15 (by decide) (fun c_15 => ?_) (fun c_15 => ?_)
      · have c_15 : (p0 + q0 + r0) ≤ k := (nI_leI (a := (p0 + q0 + r0)) (b := k) (by omega) (by omega)).mp c_15
        obtain rfl : k = p0 + q0 + r0 := by omega
        refine lv_iload_n hx hb dX7_signOf_71 rfl (lv_at hl 3 rfl) ?_
        subst hQe
        exact W.iret (v := sgnM p0 q0 a b (p0 + q0 + r0)) hx hb hr (fun t ht hW => ⟨_, rfl, rfl, ht⟩) hS.2.2 dX7_signOf_72
      · have c_15 : ¬ (p0 + q0 + r0) ≤ k := fun h => c_15 ((nI_leI (a := (p0 + q0 + r0)) (b := k) (by omega) (by omega)).mpr h)
        refine lv_iload_n hx hb dX7_signOf_18 rfl (lv_at hl 1 rfl) ?_
        refine lv_iload_n hx hb dX7_signOf_19 rfl (lv_at hl 2 rfl) ?_
        refine lv_iand hx hb dX7_signOf_20 ?_
        refine e_i (y := nI (a &&& b)) (n_and _ _) ?_
        refine lv_iload hx hb dX7_signOf_21 (lv_at hl 4 rfl) ?_
        refine lv_ishr hx hb dX7_signOf_23 ?_
        refine e_i (y := nI ((a &&& b) / 2 ^ k)) (n_shr (by omega) (by omega)) ?_
        refine lv_iconst (v := nI 1) hx hb dX7_signOf_24 (by decide) ?_
        refine lv_iand hx hb dX7_signOf_25 ?_
        refine e_i (y := nI (((a &&& b) / 2 ^ k) &&& 1)) (n_and _ _) ?_
        refine lv_iconst (v := nI 1) hx hb dX7_signOf_26 (by decide) ?_
        refine lv_icmp_ne (tgt := 65) hx hb dX7_signOf_27 (by decide) (fun c_27 => ?_) (fun c_27 => ?_)
        · have c_27 : ¬ (((a &&& b) / 2 ^ k) &&& 1) = 1 := fun h => c_27 ((nI_eq (a := (((a &&& b) / 2 ^ k) &&& 1)) (b := 1) (Nat.lt_of_le_of_lt Nat.and_le_right (by decide)) (by omega)).mpr h)
          have hl : lv_has ls 5 [(0, .ref (o 0)), (1, .int (nI a)), (2, .int (nI b)), (3, .int (sgnM p0 q0 a b (k + 1))), (4, .int (nI k))] := by rw [show sgnM p0 q0 a b (k + 1) = sgnM p0 q0 a b k from (show (if (a &&& b) / 2 ^ k &&& 1 = 1 then sgnM p0 q0 a b k * sqV p0 q0 k else sgnM p0 q0 a b k) = _ from by rw [if_neg c_27])]; exact hl
          refine lv_iinc (v := nI (k + 1)) (lv' := [(4, .int (nI (k + 1))), (0, .ref (o 0)), (1, .int (nI a)), (2, .int (nI b)), (3, .int (sgnM p0 q0 a b (k + 1)))]) hx hb dX7_signOf_65 hl (k := 4) rfl (by exact nI_add _ 1) (by decide) rfl (fun ls hl => ?_)
          refine lv_goto (tgt := 9) hx hb dX7_signOf_68 (by decide) ?_
          exact ih (k + 1) ls (by omega) (by omega) (lv_sub hl [1, 2, 3, 4, 0] rfl)
        · have c_27 : (((a &&& b) / 2 ^ k) &&& 1) = 1 := (nI_eq (a := (((a &&& b) / 2 ^ k) &&& 1)) (b := 1) (Nat.lt_of_le_of_lt Nat.and_le_right (by decide)) (by omega)).mp c_27
          refine lv_iload_n hx hb dX7_signOf_30 rfl (lv_at hl 3 rfl) ?_
          refine lv_iload hx hb dX7_signOf_31 (lv_at hl 4 rfl) ?_
          refine lv_aload_n hx hb dX7_signOf_33 rfl (lv_at hl 0 rfl) ?_
          refine va_get (D := (dC, dI)) (ci := 2) (v := .int (nI p0)) (C := RX7) (T := TX7) (N := 27) hx hb hts in_X7 hown hK hP 0 rfl rfl 1 (by decide) (hts _ q2007) (fun _ h9 => h9) rfl dX7_signOf_34 ?_
          refine lv_icmp_ge (tgt := 44) hx hb dX7_signOf_37 (by decide) (fun c_37 => ?_) (fun c_37 => ?_)
          · have c_37 : p0 ≤ k := (nI_leI (a := p0) (b := k) (by omega) (by omega)).mp c_37
            refine lv_iload hx hb dX7_signOf_44 (lv_at hl 4 rfl) ?_
            refine lv_aload_n hx hb dX7_signOf_46 rfl (lv_at hl 0 rfl) ?_
            refine va_get (D := (dC, dI)) (ci := 2) (v := .int (nI p0)) (C := RX7) (T := TX7) (N := 27) hx hb hts in_X7 hown hK hP 0 rfl rfl 1 (by decide) (hts _ q2007) (fun _ h9 => h9) rfl dX7_signOf_47 ?_
            refine lv_aload_n hx hb dX7_signOf_50 rfl (lv_at hl 0 rfl) ?_
            refine va_get (D := (dC, dI)) (ci := 2) (v := .int (nI q0)) (C := RX7) (T := TX7) (N := 27) hx hb hts in_X7 hown hK hP 0 rfl rfl 2 (by decide) (hts _ q2008) (fun _ h9 => h9) rfl dX7_signOf_51 ?_
            refine lv_iadd hx hb dX7_signOf_54 ?_
            refine e_i (y := nI (p0 + q0)) (nI_add _ _) ?_
            refine lv_icmp_ge (tgt := 62) hx hb dX7_signOf_55 (by decide) (fun c_55 => ?_) (fun c_55 => ?_)
            · have c_55 : (p0 + q0) ≤ k := (nI_leI (a := (p0 + q0)) (b := k) (by omega) (by omega)).mp c_55
              refine lv_iconst (v := nI 0) hx hb dX7_signOf_62 (by decide) ?_
              refine lv_imul hx hb dX7_signOf_63 ?_
              refine e_i (y := sgnM p0 q0 a b (k + 1)) (show sgnM p0 q0 a b k * nI 0 = (if (a &&& b) / 2 ^ k &&& 1 = 1 then sgnM p0 q0 a b k * sqV p0 q0 k else sgnM p0 q0 a b k) from by rw [if_pos c_27, sqV, if_neg (by omega), if_neg (by omega)]) ?_
              refine lv_istore_n (lv' := [(3, .int (sgnM p0 q0 a b (k + 1))), (0, .ref (o 0)), (1, .int (nI a)), (2, .int (nI b)), (4, .int (nI k))]) hx hb dX7_signOf_64 rfl hl (by decide) rfl (fun ls hl => ?_)
              refine lv_iinc (v := nI (k + 1)) (lv' := [(4, .int (nI (k + 1))), (3, .int (sgnM p0 q0 a b (k + 1))), (0, .ref (o 0)), (1, .int (nI a)), (2, .int (nI b))]) hx hb dX7_signOf_65 hl (k := 4) rfl (by exact nI_add _ 1) (by decide) rfl (fun ls hl => ?_)
              refine lv_goto (tgt := 9) hx hb dX7_signOf_68 (by decide) ?_
              exact ih (k + 1) ls (by omega) (by omega) (lv_sub hl [2, 3, 4, 1, 0] rfl)
            · have c_55 : ¬ (p0 + q0) ≤ k := fun h => c_55 ((nI_leI (a := (p0 + q0)) (b := k) (by omega) (by omega)).mpr h)
              refine lv_iconst (v := (-1)) hx hb dX7_signOf_58 (by decide) ?_
              refine lv_goto (tgt := 63) hx hb dX7_signOf_59 (by decide) ?_
              refine lv_imul hx hb dX7_signOf_63 ?_
              refine e_i (y := sgnM p0 q0 a b (k + 1)) (show sgnM p0 q0 a b k * (-1) = (if (a &&& b) / 2 ^ k &&& 1 = 1 then sgnM p0 q0 a b k * sqV p0 q0 k else sgnM p0 q0 a b k) from by rw [if_pos c_27, sqV, if_neg (by omega), if_pos (by omega)]) ?_
              refine lv_istore_n (lv' := [(3, .int (sgnM p0 q0 a b (k + 1))), (0, .ref (o 0)), (1, .int (nI a)), (2, .int (nI b)), (4, .int (nI k))]) hx hb dX7_signOf_64 rfl hl (by decide) rfl (fun ls hl => ?_)
              refine lv_iinc (v := nI (k + 1)) (lv' := [(4, .int (nI (k + 1))), (3, .int (sgnM p0 q0 a b (k + 1))), (0, .ref (o 0)), (1, .int (nI a)), (2, .int (nI b))]) hx hb dX7_signOf_65 hl (k := 4) rfl (by exact nI_add _ 1) (by decide) rfl (fun ls hl => ?_)
              refine lv_goto (tgt := 9) hx hb dX7_signOf_68 (by decide) ?_
              exact ih (k + 1) ls (by omega) (by omega) (lv_sub hl [2, 3, 4, 1, 0] rfl)
          · have c_37 : ¬ p0 ≤ k := fun h => c_37 ((nI_leI (a := p0) (b := k) (by omega) (by omega)).mpr h)
            refine lv_iconst (v := nI 1) hx hb dX7_signOf_40 (by decide) ?_
            refine lv_goto (tgt := 63) hx hb dX7_signOf_41 (by decide) ?_
            refine lv_imul hx hb dX7_signOf_63 ?_
            refine e_i (y := sgnM p0 q0 a b (k + 1)) (show sgnM p0 q0 a b k * nI 1 = (if (a &&& b) / 2 ^ k &&& 1 = 1 then sgnM p0 q0 a b k * sqV p0 q0 k else sgnM p0 q0 a b k) from by rw [if_pos c_27, sqV, if_pos (by omega)]) ?_
            refine lv_istore_n (lv' := [(3, .int (sgnM p0 q0 a b (k + 1))), (0, .ref (o 0)), (1, .int (nI a)), (2, .int (nI b)), (4, .int (nI k))]) hx hb dX7_signOf_64 rfl hl (by decide) rfl (fun ls hl => ?_)
            refine lv_iinc (v := nI (k + 1)) (lv' := [(4, .int (nI (k + 1))), (3, .int (sgnM p0 q0 a b (k + 1))), (0, .ref (o 0)), (1, .int (nI a)), (2, .int (nI b))]) hx hb dX7_signOf_65 hl (k := 4) rfl (by exact nI_add _ 1) (by decide) rfl (fun ls hl => ?_)
            refine lv_goto (tgt := 9) hx hb dX7_signOf_68 (by decide) ?_
            exact ih (k + 1) ls (by omega) (by omega) (lv_sub hl [2, 3, 4, 1, 0] rfl)
  exact loop_1 _ 0 ls (Nat.lt_succ_self _) (by omega) (lv_sub hl [2, 3, 4, 1, 0] rfl)
set_option maxHeartbeats 4000000 in
theorem x7_isTaken {l : Launch} {dC : Nat → ClassId} {dI : Nat → Nat → Nat} {dA : Nat → ClassId} {s0 : State} {b0 : Addr} (Z : Z0 l dC dI dA s0 b0) (kd a b : Nat) (h2 : 2 ≤ kd) (h6 : kd ≤ 6) (ha : a < 32) (hbb : b < 32) : Met l yX7_isTaken (ws_ yX7_isTaken cX7_isTaken 6 (some .boolean)) ({ frames := 2, cells := 0, slots := 0, locals := 120 } : Room) (gP [.int (nI kd), .int (nI a), .int (nI b)] s0 (fun _ => False) (fun H => True)) (vp_Si (fun r => r = bI (takB kd a b))) 0 0 (fun _ => False) := by
  refine Met.ofW (cc := cX7_isTaken) (maxL := 6) (ret := (some .boolean)) (by decide) rfl ?_
  intro p e s m args below meth c s₁ B hml hv
  obtain ⟨hav, hG, hno⟩ := hv
  have hx := B.exec
  have hb := B.bytes
  have hr := B.returns
  have hts := atoms_spec (ws := (ws_ yX7_isTaken cX7_isTaken 6 (some .boolean))) B.pre
  have hts : ∀ w ∈ lw_all, w.before _ s = true := fun w h => hts w (List.mem_cons_of_mem _ h)
  have hown : s.vm.findClass RX7 = some m.cls := findClass_of_methodNamed B.named
  have hlocks := B.notSynchronized
  have hK := hG.K Z
  have hS : va_S (fun _ => False) s.heap s.heap [] := va_S.rf
  have hP : va_P (dC, dI) vwCl [] s.heap := fun k q h => by simp at h
  have hD : va_D (fun _ => False) [] := ⟨fun i j p q h => by simp at h, fun k q h => by simp at h⟩
  have hl := lv_entry ([.int (nI kd), .int (nI a), .int (nI b)]) (n := 6) (Nat.le_of_ble_eq_true rfl)
  rw [show entryFrame m args 6 = entryFrame m ([.int (nI kd), .int (nI a), .int (nI b)] : List Value).toArray 6 from by rw [hav], lg_entry_eq]
  generalize (lg_sl ([.int (nI kd), .int (nI a), .int (nI b)]) ++ List.replicate (6 - (lg_sl ([.int (nI kd), .int (nI a), .int (nI b)])).length) Slot.unset).toArray = ls at hl ⊢
  have hl : lv_has ls 6 [(0, .int (nI kd)), (1, .int (nI a)), (2, .int (nI b))] := hl
  generalize hQe : MQ below _ _ s _ _ _ = Q
  change W p l e ({ frames := 2, cells := 0, slots := 0, locals := 120 } : Room) s m args below meth c s.heap [] 0 0 Q (F0 m 0 ls [])
  refine lv_iload_n hx hb dX7_isTaken_0 rfl (lv_at hl 1 rfl) ?_
  refine s_i (va_runS (As := [.int (nI a)]) (rest := []) ⟨hx, hb, hml, hown, hts⟩ (x7_size Z a (by omega)) (va_cwS 1 hts (lw_S q2158 q2159 q107 q2160) rfl rfl rfl (by decide +kernel) ⟨Nat.le_of_ble_eq_true rfl, Nat.le_of_ble_eq_true rfl⟩) (gP_S hG hS (fun q _ h => h.elim) trivial) rfl rfl hl.1 rfl (lv_room (Nat.le_of_ble_eq_true rfl)) dX7_isTaken_1 ⟨by first | decide | omega, by first | decide | omega⟩) ?_
  refine lv_istore_n (lv' := [(3, .int (nI (popc a))), (0, .int (nI kd)), (1, .int (nI a)), (2, .int (nI b))]) hx hb dX7_isTaken_4 rfl hl (by decide) rfl (fun ls hl => ?_)
  refine lv_iload_n hx hb dX7_isTaken_5 rfl (lv_at hl 3 rfl) ?_
  refine s_i (va_runS (As := [.int (nI b)]) (rest := []) ⟨hx, hb, hml, hown, hts⟩ (x7_size Z b (by omega)) (va_cwS 1 hts (lw_S q2158 q2159 q107 q2160) rfl rfl rfl (by decide +kernel) ⟨Nat.le_of_ble_eq_true rfl, Nat.le_of_ble_eq_true rfl⟩) (gP_S hG hS (fun q _ h => h.elim) trivial) rfl rfl hl.1 rfl (lv_room (Nat.le_of_ble_eq_true rfl)) dX7_isTaken_6 ⟨by first | decide | omega, by first | decide | omega⟩) ?_
  refine lv_istore (lv' := [(4, .int (nI (popc b))), (3, .int (nI (popc a))), (0, .int (nI kd)), (1, .int (nI a)), (2, .int (nI b))]) hx hb dX7_isTaken_9 hl (by decide) rfl (fun ls hl => ?_)
  refine lv_iload_n hx hb dX7_isTaken_11 rfl (lv_at hl 3 rfl) ?_
  refine lv_iload_n hx hb dX7_isTaken_12 rfl (lv_at hl 4 rfl) ?_
  refine lv_ixor hx hb dX7_isTaken_13 ?_
  refine e_i (y := nI (a ^^^ b)) (n_xor _ _) ?_
  refine s_i (va_runS (As := [.int (nI (a ^^^ b))]) (rest := []) ⟨hx, hb, hml, hown, hts⟩ (x7_size Z (a ^^^ b) (by have := xor32 ha hbb; omega)) (va_cwS 1 hts (lw_S q2158 q2159 q107 q2160) rfl rfl rfl (by decide +kernel) ⟨Nat.le_of_ble_eq_true rfl, Nat.le_of_ble_eq_true rfl⟩) (gP_S hG hS (fun q _ h => h.elim) trivial) rfl rfl hl.1 rfl (lv_room (Nat.le_of_ble_eq_true rfl)) dX7_isTaken_14 ⟨by first | decide | omega, by first | decide | omega⟩) ?_
  refine lv_istore (lv' := [(5, .int (nI (popc (a ^^^ b)))), (4, .int (nI (popc b))), (3, .int (nI (popc a))), (0, .int (nI kd)), (1, .int (nI a)), (2, .int (nI b))]) hx hb dX7_isTaken_17 hl (by decide) rfl (fun ls hl => ?_)
  refine lv_iload_n hx hb dX7_isTaken_19 rfl (lv_at hl 3 rfl) ?_
  have hi9 := popc_le5 a ha; have hj9 := popc_le5 b hbb; have hk9 := popc_le5 (a ^^^ b) (xor32 ha hbb)
  rcases (show kd = 2 ∨ kd = 3 ∨ kd = 4 ∨ kd = 5 ∨ kd = 6 by omega) with rfl | rfl | rfl | rfl | rfl
  · refine lv_tableIn (off := 32) (tgt := 52) hx hb dX7_isTaken_20 (by decide) (by decide) rfl (by decide) ?_
    refine lv_iconst (v := nI 1) hx hb dX7_isTaken_52 (by decide) ?_
    subst hQe
    exact W.zret (v := nI 1) hx hb hr rfl (fun t ht hW => ⟨_, rfl, rfl, ht⟩) hS.2.2 dX7_isTaken_53
  · refine lv_tableIn (off := 34) (tgt := 54) hx hb dX7_isTaken_20 (by decide) (by decide) rfl (by decide) ?_
    refine lv_iload hx hb dX7_isTaken_54 (lv_at hl 0 rfl) ?_
    refine lv_iload_n hx hb dX7_isTaken_56 rfl (lv_at hl 2 rfl) ?_
    refine lv_iload hx hb dX7_isTaken_57 (lv_at hl 1 rfl) ?_
    refine lv_iadd hx hb dX7_isTaken_59 ?_
    refine e_i (y := nI (popc a + (popc b))) (nI_add _ _) ?_
    refine lv_icmp_ne (tgt := 67) hx hb dX7_isTaken_60 (by decide) (fun c_60 => ?_) (fun c_60 => ?_)
    · have c_60 : ¬ (popc (a ^^^ b)) = (popc a + (popc b)) := fun h => c_60 ((nI_eq (a := (popc (a ^^^ b))) (b := (popc a + (popc b))) (by omega) (by omega)).mpr h)
      refine lv_iconst (v := nI 0) hx hb dX7_isTaken_67 (by decide) ?_
      subst hQe
      exact W.zret (v := nI 0) hx hb hr rfl (fun t ht hW => ⟨_, rfl, (by show _ = bI (decide (popc (a ^^^ b) = popc a + popc b)); rw [decide_eq_false (by first | exact c_60 | omega)]; rfl), ht⟩) hS.2.2 dX7_isTaken_68
    · have c_60 : (popc (a ^^^ b)) = (popc a + (popc b)) := (nI_eq (a := (popc (a ^^^ b))) (b := (popc a + (popc b))) (by omega) (by omega)).mp c_60
      refine lv_iconst (v := nI 1) hx hb dX7_isTaken_63 (by decide) ?_
      refine lv_goto (tgt := 68) hx hb dX7_isTaken_64 (by decide) ?_
      subst hQe
      exact W.zret (v := nI 1) hx hb hr rfl (fun t ht hW => ⟨_, rfl, (by show _ = bI (decide (popc (a ^^^ b) = popc a + popc b)); rw [decide_eq_true (by first | exact c_60 | omega)]; rfl), ht⟩) hS.2.2 dX7_isTaken_68
  · refine lv_tableIn (off := 49) (tgt := 69) hx hb dX7_isTaken_20 (by decide) (by decide) rfl (by decide) ?_
    refine lv_iload hx hb dX7_isTaken_69 (lv_at hl 0 rfl) ?_
    refine lv_iload hx hb dX7_isTaken_71 (lv_at hl 1 rfl) ?_
    refine lv_iload_n hx hb dX7_isTaken_73 rfl (lv_at hl 2 rfl) ?_
    refine lv_isub hx hb dX7_isTaken_74 ?_
    refine lv_icmp_ne (tgt := 82) hx hb dX7_isTaken_75 (by decide) (fun c_75 => ?_) (fun c_75 => ?_)
    · refine lv_iconst (v := nI 0) hx hb dX7_isTaken_82 (by decide) ?_
      subst hQe
      exact W.zret (v := nI 0) hx hb hr rfl (fun t ht hW => ⟨_, rfl, (by show _ = bI (decide (popc (a ^^^ b) + popc a = popc b)); rw [decide_eq_false (by first | exact (fun h => c_75 (by rw [pk_sub (by omega)]; exact n_eq (by omega))) | omega)]; rfl), ht⟩) hS.2.2 dX7_isTaken_83
    · refine lv_iconst (v := nI 1) hx hb dX7_isTaken_78 (by decide) ?_
      refine lv_goto (tgt := 83) hx hb dX7_isTaken_79 (by decide) ?_
      subst hQe
      exact W.zret (v := nI 1) hx hb hr rfl (fun t ht hW => ⟨_, rfl, (by show _ = bI (decide (popc (a ^^^ b) + popc a = popc b)); rw [decide_eq_true (by first | exact (isub_eq (by omega) (by omega) (by omega) c_75) | omega)]; rfl), ht⟩) hS.2.2 dX7_isTaken_83
  · refine lv_tableIn (off := 64) (tgt := 84) hx hb dX7_isTaken_20 (by decide) (by decide) rfl (by decide) ?_
    refine lv_iload hx hb dX7_isTaken_84 (lv_at hl 0 rfl) ?_
    refine lv_iload_n hx hb dX7_isTaken_86 rfl (lv_at hl 2 rfl) ?_
    refine lv_iload hx hb dX7_isTaken_87 (lv_at hl 1 rfl) ?_
    refine lv_isub hx hb dX7_isTaken_89 ?_
    refine lv_icmp_ne (tgt := 97) hx hb dX7_isTaken_90 (by decide) (fun c_90 => ?_) (fun c_90 => ?_)
    · refine lv_iconst (v := nI 0) hx hb dX7_isTaken_97 (by decide) ?_
      subst hQe
      exact W.zret (v := nI 0) hx hb hr rfl (fun t ht hW => ⟨_, rfl, (by show _ = bI (decide (popc (a ^^^ b) + popc b = popc a)); rw [decide_eq_false (by first | exact (fun h => c_90 (by rw [pk_sub (by omega)]; exact n_eq (by omega))) | omega)]; rfl), ht⟩) hS.2.2 dX7_isTaken_98
    · refine lv_iconst (v := nI 1) hx hb dX7_isTaken_93 (by decide) ?_
      refine lv_goto (tgt := 98) hx hb dX7_isTaken_94 (by decide) ?_
      subst hQe
      exact W.zret (v := nI 1) hx hb hr rfl (fun t ht hW => ⟨_, rfl, (by show _ = bI (decide (popc (a ^^^ b) + popc b = popc a)); rw [decide_eq_true (by first | exact (isub_eq (by omega) (by omega) (by omega) c_90) | omega)]; rfl), ht⟩) hS.2.2 dX7_isTaken_98
  · refine lv_tableOut (tgt := 99) hx hb dX7_isTaken_20 (by decide) (by decide) ?_
    refine lv_iload hx hb dX7_isTaken_99 (lv_at hl 0 rfl) ?_
    refine lv_if_ne (tgt := 108) hx hb dX7_isTaken_101 (by decide) (fun c_101 => ?_) (fun c_101 => ?_)
    · have c_101 : ¬ (popc (a ^^^ b)) = 0 := fun h => c_101 ((nI_eq (a := (popc (a ^^^ b))) (b := 0) (by omega) (by omega)).mpr h)
      refine lv_iconst (v := nI 0) hx hb dX7_isTaken_108 (by decide) ?_
      subst hQe
      exact W.zret (v := nI 0) hx hb hr rfl (fun t ht hW => ⟨_, rfl, (by show _ = bI (decide (popc (a ^^^ b) = 0)); rw [decide_eq_false (by first | exact c_101 | omega)]; rfl), ht⟩) hS.2.2 dX7_isTaken_109
    · have c_101 : (popc (a ^^^ b)) = 0 := (nI_eq (a := (popc (a ^^^ b))) (b := 0) (by omega) (by omega)).mp c_101
      refine lv_iconst (v := nI 1) hx hb dX7_isTaken_104 (by decide) ?_
      refine lv_goto (tgt := 109) hx hb dX7_isTaken_105 (by decide) ?_
      subst hQe
      exact W.zret (v := nI 1) hx hb hr rfl (fun t ht hW => ⟨_, rfl, (by show _ = bI (decide (popc (a ^^^ b) = 0)); rw [decide_eq_true (by first | exact c_101 | omega)]; rfl), ht⟩) hS.2.2 dX7_isTaken_109
