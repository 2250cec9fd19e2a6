theorem pow5 {n : Nat} (h : n ≤ 5) : 2 ^ n ≤ 32 ∧ 1 ≤ 2 ^ n := by
  have : ∀ n, n ≤ 5 → 2 ^ n ≤ 32 ∧ 1 ≤ 2 ^ n := by decide
  exact this n h
set_option maxHeartbeats 4000000 in
/-- in -/
theorem x7_in {l : Launch} {dC : Nat → ClassId} {dI : Nat → Nat → Nat} {dA : Nat → ClassId} {s0 : State} {b0 : Addr} (Z : Z0 l dC dI dA s0 b0) (v lo hi : Int32) : Met l yX7_in (ws_ yX7_in cX7_in 3 (some .boolean)) ({ frames := 1, cells := 0, slots := 0, locals := 60 } : Room) (gP [.int v, .int lo, .int hi] s0 (fun _ => False) (fun H => True)) (vp_Si (fun r => r = bI (inB v lo hi))) 0 0 (fun _ => False) := by
  refine Met.ofW (cc := cX7_in) (maxL := 3) (ret := (some .boolean)) (by decide) rfl ?_
  intro p e s m args below meth c s₁ B hml hv
  obtain ⟨hav, hG, hno⟩ := hv
  have hx := B.exec
  have hb := B.bytes
  have hr := B.returns
  have hts := atoms_spec (ws := (ws_ yX7_in cX7_in 3 (some .boolean))) B.pre
  have hts : ∀ w ∈ lw_all, w.before _ s = true := fun w h => hts w (List.mem_cons_of_mem _ h)
  have hown : s.vm.findClass RX7 = some m.cls := findClass_of_methodNamed B.named
  have hlocks := B.notSynchronized
  have hK := hG.K Z
  have hS : va_S (fun _ => False) s.heap s.heap [] := va_S.rf
  have hP : va_P (dC, dI) vwCl [] s.heap := fun k q h => by simp at h
  have hD : va_D (fun _ => False) [] := ⟨fun i j p q h => by simp at h, fun k q h => by simp at h⟩
  have hl := lv_entry ([.int v, .int lo, .int hi]) (n := 3) (Nat.le_of_ble_eq_true rfl)
  rw [show entryFrame m args 3 = entryFrame m ([.int v, .int lo, .int hi] : List Value).toArray 3 from by rw [hav], lg_entry_eq]
  generalize (lg_sl ([.int v, .int lo, .int hi]) ++ List.replicate (3 - (lg_sl ([.int v, .int lo, .int hi])).length) Slot.unset).toArray = ls at hl ⊢
  have hl : lv_has ls 3 [(0, .int v), (1, .int lo), (2, .int hi)] := hl
  generalize hQe : MQ below _ _ s _ _ _ = Q
  change W p l e ({ frames := 1, cells := 0, slots := 0, locals := 60 } : Room) s m args below meth c s.heap [] 0 0 Q (F0 m 0 ls [])
  refine lv_iload_n hx hb dX7_in_0 rfl (lv_at hl 0 rfl) ?_
  refine lv_iload_n hx hb dX7_in_1 rfl (lv_at hl 1 rfl) ?_
  refine lv_icmp_lt (tgt := 14) hx hb dX7_in_2 (by decide) (fun c_2 => ?_) (fun c_2 => ?_)
  · refine lv_iconst (v := nI 0) hx hb dX7_in_14 (by decide) ?_
    subst hQe
    exact W.zret (v := nI 0) hx hb hr rfl (fun t ht hW => ⟨_, rfl, (by unfold inB; rw [decide_eq_false (fun h => Int32.not_lt.mpr h c_2)]; rfl), ht⟩) hS.2.2 dX7_in_15
  · refine lv_iload_n hx hb dX7_in_5 rfl (lv_at hl 0 rfl) ?_
    refine lv_iload_n hx hb dX7_in_6 rfl (lv_at hl 2 rfl) ?_
    refine lv_icmp_gt (tgt := 14) hx hb dX7_in_7 (by decide) (fun c_7 => ?_) (fun c_7 => ?_)
    · refine lv_iconst (v := nI 0) hx hb dX7_in_14 (by decide) ?_
      subst hQe
      exact W.zret (v := nI 0) hx hb hr rfl (fun t ht hW => ⟨_, rfl, (by unfold inB; rw [decide_eq_false (p := v ≤ hi) (fun h => Int32.not_lt.mpr h c_7), Bool.and_false]; rfl), ht⟩) hS.2.2 dX7_in_15
    · refine lv_iconst (v := nI 1) hx hb dX7_in_10 (by decide) ?_
      refine lv_goto (tgt := 15) hx hb dX7_in_11 (by decide) ?_
      subst hQe
      exact W.zret (v := nI 1) hx hb hr rfl (fun t ht hW => ⟨_, rfl, (by unfold inB; rw [decide_eq_true (Int32.not_lt.mp c_2), decide_eq_true (Int32.not_lt.mp c_7)]; rfl), ht⟩) hS.2.2 dX7_in_15
set_option maxHeartbeats 4000000 in
theorem x7_isRegister {l : Launch} {dC : Nat → ClassId} {dI : Nat → Nat → Nat} {dA : Nat → ClassId} {s0 : State} {b0 : Addr} (Z : Z0 l dC dI dA s0 b0) (v : Int32) : Met l yX7_isRegister (ws_ yX7_isRegister cX7_isRegister 1 (some .boolean)) ({ frames := 2, cells := 0, slots := 0, locals := 120 } : Room) (gP [.int v] s0 (fun _ => False) (fun H => True)) (vp_Si (fun r => r = bI (inB v (nI 0) (nI 7)))) 0 0 (fun _ => False) := by
  refine Met.ofW (cc := cX7_isRegister) (maxL := 1) (ret := (some .boolean)) (by decide) rfl ?_
  intro p e s m args below meth c s₁ B hml hv
  obtain ⟨hav, hG, hno⟩ := hv
  have hx := B.exec
  have hb := B.bytes
  have hr := B.returns
  have hts := atoms_spec (ws := (ws_ yX7_isRegister cX7_isRegister 1 (some .boolean))) B.pre
  have hts : ∀ w ∈ lw_all, w.before _ s = true := fun w h => hts w (List.mem_cons_of_mem _ h)
  have hown : s.vm.findClass RX7 = some m.cls := findClass_of_methodNamed B.named
  have hlocks := B.notSynchronized
  have hK := hG.K Z
  have hS : va_S (fun _ => False) s.heap s.heap [] := va_S.rf
  have hP : va_P (dC, dI) vwCl [] s.heap := fun k q h => by simp at h
  have hD : va_D (fun _ => False) [] := ⟨fun i j p q h => by simp at h, fun k q h => by simp at h⟩
  have hl := lv_entry ([.int v]) (n := 1) (Nat.le_of_ble_eq_true rfl)
  rw [show entryFrame m args 1 = entryFrame m ([.int v] : List Value).toArray 1 from by rw [hav], lg_entry_eq]
  generalize (lg_sl ([.int v]) ++ List.replicate (1 - (lg_sl ([.int v])).length) Slot.unset).toArray = ls at hl ⊢
  have hl : lv_has ls 1 [(0, .int v)] := hl
  generalize hQe : MQ below _ _ s _ _ _ = Q
  change W p l e ({ frames := 2, cells := 0, slots := 0, locals := 120 } : Room) s m args below meth c s.heap [] 0 0 Q (F0 m 0 ls [])
  refine lv_iload_n hx hb dX7_isRegister_0 rfl (lv_at hl 0 rfl) ?_
  refine lv_iconst (v := nI 0) hx hb dX7_isRegister_1 (by decide) ?_
  refine lv_bipush (v := nI 7) hx hb dX7_isRegister_2 (by decide) ?_
  refine s_i (va_runS (As := [.int v, .int (nI 0), .int (nI 7)]) (rest := []) ⟨hx, hb, hml, hown, hts⟩ (x7_in Z v (nI 0) (nI 7)) (va_cwS 3 hts (lw_S q2097 q2098 q107 q2099) rfl rfl rfl (by decide +kernel) ⟨Nat.le_of_ble_eq_true rfl, Nat.le_of_ble_eq_true rfl⟩) (gP_S hG hS (fun q _ h => h.elim) trivial) rfl rfl hl.1 rfl (lv_room (Nat.le_of_ble_eq_true rfl)) dX7_isRegister_4 ⟨by first | decide | omega, by first | decide | omega⟩) ?_
  subst hQe
  exact W.zret (v := bI (inB v (nI 0) (nI 7))) hx hb hr (bI_z _) (fun t ht hW => ⟨_, rfl, rfl, ht⟩) hS.2.2 dX7_isRegister_7
set_option maxHeartbeats 4000000 in
/-- size: the number of bits -/
theorem x7_size {l : Launch} {dC : Nat → ClassId} {dI : Nat → Nat → Nat} {dA : Nat → ClassId} {s0 : State} {b0 : Addr} (Z : Z0 l dC dI dA s0 b0) (a : Nat) (ha : a < 64) : Met l yX7_size (ws_ yX7_size cX7_size 3 (some .int)) ({ frames := 1, cells := 0, slots := 0, locals := 60 } : Room) (gP [.int (nI a)] s0 (fun _ => False) (fun H => True)) (vp_Si (fun r => r = nI (popc a))) 0 0 (fun _ => False) := by
  refine Met.ofW (cc := cX7_size) (maxL := 3) (ret := (some .int)) (by decide) rfl ?_
  intro p e s m args below meth c s₁ B hml hv
  obtain ⟨hav, hG, hno⟩ := hv
  have hx := B.exec
  have hb := B.bytes
  have hr := B.returns
  have hts := atoms_spec (ws := (ws_ yX7_size cX7_size 3 (some .int))) B.pre
  have hts : ∀ w ∈ lw_all, w.before _ s = true := fun w h => hts w (List.mem_cons_of_mem _ h)
  have hown : s.vm.findClass RX7 = some m.cls := findClass_of_methodNamed B.named
  have hlocks := B.notSynchronized
  have hK := hG.K Z
  have hS : va_S (fun _ => False) s.heap s.heap [] := va_S.rf
  have hP : va_P (dC, dI) vwCl [] s.heap := fun k q h => by simp at h
  have hD : va_D (fun _ => False) [] := ⟨fun i j p q h => by simp at h, fun k q h => by simp at h⟩
  have hl := lv_entry ([.int (nI a)]) (n := 3) (Nat.le_of_ble_eq_true rfl)
  rw [show entryFrame m args 3 = entryFrame m ([.int (nI a)] : List Value).toArray 3 from by rw [hav], lg_entry_eq]
  generalize (lg_sl ([.int (nI a)]) ++ List.replicate (3 - (lg_sl ([.int (nI a)])).length) Slot.unset).toArray = ls at hl ⊢
  have hl : lv_has ls 3 [(0, .int (nI a))] := hl
  generalize hQe : MQ below _ _ s _ _ _ = Q
  change W p l e ({ frames := 1, cells := 0, slots := 0, locals := 60 } : Room) s m args below meth c s.heap [] 0 0 Q (F0 m 0 ls [])
  refine lv_iconst (v := nI 0) hx hb dX7_size_0 (by decide) ?_
  refine lv_istore_n (lv' := [(1, .int (nI 0)), (0, .int (nI a))]) hx hb dX7_size_1 rfl hl (by decide) rfl (fun ls hl => ?_)
  refine lv_iload_n hx hb dX7_size_2 rfl (lv_at hl 1 rfl) ?_
  refine lv_istore_n (lv' := [(2, .int (nI a)), (1, .int (nI 0)), (0, .int (nI a))]) hx hb dX7_size_3 rfl hl (by decide) rfl (fun ls hl => ?_)
  have loop_1 : ∀ (n9 : Nat) (x : Nat) (n : Nat) (ls : Array Slot), x < n9 → (x < 64) → (popc x + n = popc a) → (n ≤ 6) → lv_has ls 3 [(1, .int (nI n)), (2, .int (nI x))] → W p l e ({ frames := 1, cells := 0, slots := 0, locals := 60 } : Room) s m args below meth c s.heap [] 0 0 Q (F0 m 4 ls []) := by
    intro n9
    induction n9 with
    | zero => intro x n ls hm; exact absurd hm (Nat.not_lt_zero _)
    | succ n9 ih =>
      intro x n ls hm hx9 hn9 hn8 hl
      refine lv_iload_n hx hb dX7_size_4 rfl (lv_at hl 1 rfl) ?_
      refine lv_if_eq (tgt := 20) hx hb dX7_size_5 (by decide) (fun c_5 => ?_) (fun c_5 => ?_)
      · have c_5 : x = 0 := (nI_eq (a := x) (b := 0) (by omega) (by omega)).mp c_5
        subst c_5
        refine lv_iload_n hx hb dX7_size_20 rfl (lv_at hl 0 rfl) ?_
        subst hQe
        exact W.iret (v := nI n) hx hb hr (fun t ht hW => ⟨_, rfl, (by rw [show n = popc a from by simpa [popc] using hn9]), ht⟩) hS.2.2 dX7_size_21
      · have c_5 : ¬ x = 0 := fun h => c_5 ((nI_eq (a := x) (b := 0) (by omega) (by omega)).mpr h)
        refine lv_iinc (v := nI (n + 1)) (lv' := [(1, .int (nI (n + 1))), (2, .int (nI x))]) hx hb dX7_size_8 hl (k := 0) rfl (by exact nI_add _ 1) (by decide) rfl (fun ls hl => ?_)
        refine lv_iload_n hx hb dX7_size_11 rfl (lv_at hl 1 rfl) ?_
        refine lv_iload_n hx hb dX7_size_12 rfl (lv_at hl 1 rfl) ?_
        refine lv_iconst (v := nI 1) hx hb dX7_size_13 (by decide) ?_
        refine lv_isub hx hb dX7_size_14 ?_
        refine e_i (y := nI (x - 1)) (pk_sub (by omega)) ?_
        refine lv_iand hx hb dX7_size_15 ?_
        refine e_i (y := nI (x &&& (x - 1))) (n_and _ _) ?_
        refine lv_istore_n (lv' := [(2, .int (nI (x &&& (x - 1)))), (1, .int (nI (n + 1)))]) hx hb dX7_size_16 rfl hl (by decide) rfl (fun ls hl => ?_)
        refine lv_goto (tgt := 4) hx hb dX7_size_17 (by decide) ?_
        exact ih (x &&& (x - 1)) (n + 1) ls ((by have := popc_s x hx9 (by omega); omega)) (by have := popc_s x hx9 (by omega); omega) (by have := popc_s x hx9 (by omega); omega) (by have := popc_s x hx9 (by omega); have := popc_le a ha; omega) (lv_sub hl [1, 0] rfl)
  exact loop_1 _ a 0 ls (Nat.lt_succ_self _) ha rfl (by omega) (lv_sub hl [1, 0] rfl)
set_option maxHeartbeats 4000000 in
theorem x7_n {l : Launch} {dC : Nat → ClassId} {dI : Nat → Nat → Nat} {dA : Nat → ClassId} {s0 : State} {b0 : Addr} (Z : Z0 l dC dI dA s0 b0) (o : Nat → Nat) (th : Int32) (p0 q0 r0 : Nat) (mu : Int64) (zz : Nat → Int32) : Met l yX7_n (ws_ yX7_n cX7_n 1 (some .int)) ({ frames := 1, cells := 0, slots := 0, locals := 60 } : Room) (gP [.ref (o 0)] s0 (fun _ => False) (fun H => va_P (dC, dI) vwCl [(o 0, .inr (2, mFs o th p0 q0 r0 mu zz))] H)) (vp_Si (fun r => r = nI (p0 + q0 + r0))) 0 0 (fun _ => False) := by
  refine Met.ofW (cc := cX7_n) (maxL := 1) (ret := (some .int)) (by decide) rfl ?_
  intro p e s m args below meth c s₁ B hml hv
  obtain ⟨hav, hG, hP⟩ := hv
  have hx := B.exec
  have hb := B.bytes
  have hr := B.returns
  have hts := atoms_spec (ws := (ws_ yX7_n cX7_n 1 (some .int))) B.pre
  have hts : ∀ w ∈ lw_all, w.before _ s = true := fun w h => hts w (List.mem_cons_of_mem _ h)
  have hown : s.vm.findClass RX7 = some m.cls := findClass_of_methodNamed B.named
  have hlocks := B.notSynchronized
  have hK := hG.K Z
  have hS : va_S (fun _ => False) s.heap s.heap [] := va_S.rf
  have hl := lv_entry ([.ref (o 0)]) (n := 1) (Nat.le_of_ble_eq_true rfl)
  rw [show entryFrame m args 1 = entryFrame m ([.ref (o 0)] : List Value).toArray 1 from by rw [hav], lg_entry_eq]
  generalize (lg_sl ([.ref (o 0)]) ++ List.replicate (1 - (lg_sl ([.ref (o 0)])).length) Slot.unset).toArray = ls at hl ⊢
  have hl : lv_has ls 1 [(0, .ref (o 0))] := hl
  generalize hQe : MQ below _ _ s _ _ _ = Q
  change W p l e ({ frames := 1, cells := 0, slots := 0, locals := 60 } : Room) s m args below meth c s.heap [] 0 0 Q (F0 m 0 ls [])
  refine lv_aload_n hx hb dX7_n_0 rfl (lv_at hl 0 rfl) ?_
  refine va_get (D := (dC, dI)) (ci := 2) (v := .int (nI p0)) (C := RX7) (T := TX7) (N := 27) hx hb hts in_X7 hown hK hP 0 rfl rfl 1 (by decide) (hts _ q2007) (fun _ h9 => h9) rfl dX7_n_1 ?_
  refine lv_aload_n hx hb dX7_n_4 rfl (lv_at hl 0 rfl) ?_
  refine va_get (D := (dC, dI)) (ci := 2) (v := .int (nI q0)) (C := RX7) (T := TX7) (N := 27) hx hb hts in_X7 hown hK hP 0 rfl rfl 2 (by decide) (hts _ q2008) (fun _ h9 => h9) rfl dX7_n_5 ?_
  refine lv_iadd hx hb dX7_n_8 ?_
  refine e_i (y := nI (p0 + q0)) (nI_add _ _) ?_
  refine lv_aload_n hx hb dX7_n_9 rfl (lv_at hl 0 rfl) ?_
  refine va_get (D := (dC, dI)) (ci := 2) (v := .int (nI r0)) (C := RX7) (T := TX7) (N := 27) hx hb hts in_X7 hown hK hP 0 rfl rfl 3 (by decide) (hts _ q2009) (fun _ h9 => h9) rfl dX7_n_10 ?_
  refine lv_iadd hx hb dX7_n_13 ?_
  refine e_i (y := nI (p0 + q0 + r0)) (nI_add _ _) ?_
  subst hQe
  exact W.iret (v := nI (p0 + q0 + r0)) hx hb hr (fun t ht hW => ⟨_, rfl, rfl, ht⟩) hS.2.2 dX7_n_14
set_option maxHeartbeats 4000000 in
theorem x7_full {l : Launch} {dC : Nat → ClassId} {dI : Nat → Nat → Nat} {dA : Nat → ClassId} {s0 : State} {b0 : Addr} (Z : Z0 l dC dI dA s0 b0) (o : Nat → Nat) (th : Int32) (p0 q0 r0 : Nat) (mu : Int64) (zz : Nat → Int32) (hn : p0 + q0 + r0 ≤ 5) : Met l yX7_full (ws_ yX7_full cX7_full 1 (some .int)) ({ frames := 2, cells := 0, slots := 0, locals := 120 } : Room) (gP [.ref (o 0)] s0 (fun _ => False) (fun H => va_P (dC, dI) vwCl [(o 0, .inr (2, mFs o th p0 q0 r0 mu zz))] H)) (vp_Si (fun r => r = nI (2 ^ (p0 + q0 + r0) - 1))) 0 0 (fun _ => False) := by
  refine Met.ofW (cc := cX7_full) (maxL := 1) (ret := (some .int)) (by decide) rfl ?_
  intro p e s m args below meth c s₁ B hml hv
  obtain ⟨hav, hG, hP⟩ := hv
  have hx := B.exec
  have hb := B.bytes
  have hr := B.returns
  have hts := atoms_spec (ws := (ws_ yX7_full cX7_full 1 (some .int))) B.pre
  have hts : ∀ w ∈ lw_all, w.before _ s = true := fun w h => hts w (List.mem_cons_of_mem _ h)
  have hown : s.vm.findClass RX7 = some m.cls := findClass_of_methodNamed B.named
  have hlocks := B.notSynchronized
  have hK := hG.K Z
  have hS : va_S (fun _ => False) s.heap s.heap [] := va_S.rf
  have hl := lv_entry ([.ref (o 0)]) (n := 1) (Nat.le_of_ble_eq_true rfl)
  rw [show entryFrame m args 1 = entryFrame m ([.ref (o 0)] : List Value).toArray 1 from by rw [hav], lg_entry_eq]
  generalize (lg_sl ([.ref (o 0)]) ++ List.replicate (1 - (lg_sl ([.ref (o 0)])).length) Slot.unset).toArray = ls at hl ⊢
  have hl : lv_has ls 1 [(0, .ref (o 0))] := hl
  generalize hQe : MQ below _ _ s _ _ _ = Q
  change W p l e ({ frames := 2, cells := 0, slots := 0, locals := 120 } : Room) s m args below meth c s.heap [] 0 0 Q (F0 m 0 ls [])
  refine lv_iconst (v := nI 1) hx hb dX7_full_0 (by decide) ?_
  refine lv_aload_n hx hb dX7_full_1 rfl (lv_at hl 0 rfl) ?_
  refine s_i (va_runV (As := []) (rest := [.int (nI 1)]) ⟨hx, hb, hml, hown, hts⟩ (x7_n Z o th p0 q0 r0 mu zz) (cwV 0 hts (lw_V q2151 q2153 qs44 q107 q2154) rfl rfl rfl (by decide +kernel) ⟨Nat.le_of_ble_eq_true rfl, Nat.le_of_ble_eq_true rfl⟩) (gP_V (va_recv hK hP (ci := 2) (q0 := 0) rfl rfl) hG hS (fun q _ h => h.elim) (hP.sub (ws' := [(o 0, .inr (2, mFs o th p0 q0 r0 mu zz))]) [0] rfl)) rfl rfl hl.1 rfl (lv_room (Nat.le_of_ble_eq_true rfl)) dX7_full_2 ⟨by first | decide | omega, by first | decide | omega⟩) ?_
  refine lv_ishl hx hb dX7_full_5 ?_
  refine e_i (y := nI (1 * 2 ^ (p0 + q0 + r0))) (n_shl (by omega) (by have := pow5 hn; omega)) ?_
  refine lv_iconst (v := nI 1) hx hb dX7_full_6 (by decide) ?_
  refine lv_isub hx hb dX7_full_7 ?_
  refine e_i (y := nI (2 ^ (p0 + q0 + r0) - 1)) ((pk_sub (by have := pow5 hn; omega)).trans (n_eq (by omega))) ?_
  subst hQe
  exact W.iret (v := nI (2 ^ (p0 + q0 + r0) - 1)) hx hb hr (fun t ht hW => ⟨_, rfl, rfl, ht⟩) hS.2.2 dX7_full_8
set_option maxHeartbeats 4000000 in
theorem x7_isBlade0 {l : Launch} {dC : Nat → ClassId} {dI : Nat → Nat → Nat} {dA : Nat → ClassId} {s0 : State} {b0 : Addr} (Z : Z0 l dC dI dA s0 b0) (o : Nat → Nat) (th : Int32) (p0 q0 r0 : Nat) (mu : Int64) (zz : Nat → Int32) (v : Int32) (hn : p0 + q0 + r0 ≤ 5) : Met l yX7_isBlade0 (ws_ yX7_isBlade0 cX7_isBlade0 2 (some .boolean)) ({ frames := 3, cells := 0, slots := 0, locals := 180 } : Room) (gP [.ref (o 0), .int v] s0 (fun _ => False) (fun H => va_P (dC, dI) vwCl [(o 0, .inr (2, mFs o th p0 q0 r0 mu zz))] H)) (vp_Si (fun r => r = bI (inB v (nI 0) (nI (2 ^ (p0 + q0 + r0) - 1))))) 0 0 (fun _ => False) := by
  refine Met.ofW (cc := cX7_isBlade0) (maxL := 2) (ret := (some .boolean)) (by decide) rfl ?_
  intro p e s m args below meth c s₁ B hml hv
  obtain ⟨hav, hG, hP⟩ := hv
  have hx := B.exec
  have hb := B.bytes
  have hr := B.returns
  have hts := atoms_spec (ws := (ws_ yX7_isBlade0 cX7_isBlade0 2 (some .boolean))) B.pre
  have hts : ∀ w ∈ lw_all, w.before _ s = true := fun w h => hts w (List.mem_cons_of_mem _ h)
  have hown : s.vm.findClass RX7 = some m.cls := findClass_of_methodNamed B.named
  have hlocks := B.notSynchronized
  have hK := hG.K Z
  have hS : va_S (fun _ => False) s.heap s.heap [] := va_S.rf
  have hl := lv_entry ([.ref (o 0), .int v]) (n := 2) (Nat.le_of_ble_eq_true rfl)
  rw [show entryFrame m args 2 = entryFrame m ([.ref (o 0), .int v] : List Value).toArray 2 from by rw [hav], lg_entry_eq]
  generalize (lg_sl ([.ref (o 0), .int v]) ++ List.replicate (2 - (lg_sl ([.ref (o 0), .int v])).length) Slot.unset).toArray = ls at hl ⊢
  have hl : lv_has ls 2 [(0, .ref (o 0)), (1, .int v)] := hl
  generalize hQe : MQ below _ _ s _ _ _ = Q
  change W p l e ({ frames := 3, cells := 0, slots := 0, locals := 180 } : Room) s m args below meth c s.heap [] 0 0 Q (F0 m 0 ls [])
  refine lv_iload_n hx hb dX7_isBlade0_0 rfl (lv_at hl 1 rfl) ?_
  refine lv_iconst (v := nI 0) hx hb dX7_isBlade0_1 (by decide) ?_
  refine lv_aload_n hx hb dX7_isBlade0_2 rfl (lv_at hl 0 rfl) ?_
  refine s_i (va_runV (As := []) (rest := [.int (nI 0), .int v]) ⟨hx, hb, hml, hown, hts⟩ (x7_full Z o th p0 q0 r0 mu zz (by omega)) (cwV 0 hts (lw_V q2147 q2149 qs43 q107 q2150) rfl rfl rfl (by decide +kernel) ⟨Nat.le_of_ble_eq_true rfl, Nat.le_of_ble_eq_true rfl⟩) (gP_V (va_recv hK hP (ci := 2) (q0 := 0) rfl rfl) hG hS (fun q _ h => h.elim) (hP.sub (ws' := [(o 0, .inr (2, mFs o th p0 q0 r0 mu zz))]) [0] rfl)) rfl rfl hl.1 rfl (lv_room (Nat.le_of_ble_eq_true rfl)) dX7_isBlade0_3 ⟨by first | decide | omega, by first | decide | omega⟩) ?_
  refine s_i (va_runS (As := [.int v, .int (nI 0), .int (nI (2 ^ (p0 + q0 + r0) - 1))]) (rest := []) ⟨hx, hb, hml, hown, hts⟩ (x7_in Z v (nI 0) (nI (2 ^ (p0 + q0 + r0) - 1))) (va_cwS 3 hts (lw_S q2097 q2098 q107 q2099) rfl rfl rfl (by decide +kernel) ⟨Nat.le_of_ble_eq_true rfl, Nat.le_of_ble_eq_true rfl⟩) (gP_S hG hS (fun q _ h => h.elim) trivial) rfl rfl hl.1 rfl (lv_room (Nat.le_of_ble_eq_true rfl)) dX7_isBlade0_6 ⟨by first | decide | omega, by first | decide | omega⟩) ?_
  subst hQe
  exact W.zret (v := bI (inB v (nI 0) (nI (2 ^ (p0 + q0 + r0) - 1)))) hx hb hr (bI_z _) (fun t ht hW => ⟨_, rfl, rfl, ht⟩) hS.2.2 dX7_isBlade0_9
set_option maxHeartbeats 4000000 in
theorem x7_of {l : Launch} {dC : Nat → ClassId} {dI : Nat → Nat → Nat} {dA : Nat → ClassId} {s0 : State} {b0 : Addr} (Z : Z0 l dC dI dA s0 b0) (o : Nat → Nat) (th : Int32) (p0 q0 r0 : Nat) (mu : Int64) (zz : Nat → Int32) (fA : Nat → Int64) (k b : Nat) (hk : 33 * k + 1 + b < 2640) : Met l yX7_of (ws_ yX7_of cX7_of 3 (some .long)) ({ frames := 1, cells := 0, slots := 0, locals := 60 } : Room) (gP [.ref (o 0), .int (nI k), .int (nI b)] s0 (fun _ => False) (fun H => va_P (dC, dI) vwCl [(o 0, .inr (2, mFs o th p0 q0 r0 mu zz)), (o 5, .inl (dA 1, 2640, .inr (.inl fA)))] H)) (vp_Sl (fun r => r = fA (33 * k + 1 + b))) 0 0 (fun _ => False) := by
  refine Met.ofW (cc := cX7_of) (maxL := 3) (ret := (some .long)) (by decide) rfl ?_
  intro p e s m args below meth c s₁ B hml hv
  obtain ⟨hav, hG, hP⟩ := hv
  have hx := B.exec
  have hb := B.bytes
  have hr := B.returns
  have hts := atoms_spec (ws := (ws_ yX7_of cX7_of 3 (some .long))) B.pre
  have hts : ∀ w ∈ lw_all, w.before _ s = true := fun w h => hts w (List.mem_cons_of_mem _ h)
  have hown : s.vm.findClass RX7 = some m.cls := findClass_of_methodNamed B.named
  have hlocks := B.notSynchronized
  have hK := hG.K Z
  have hS : va_S (fun _ => False) s.heap s.heap [] := va_S.rf
  have hl := lv_entry ([.ref (o 0), .int (nI k), .int (nI b)]) (n := 3) (Nat.le_of_ble_eq_true rfl)
  rw [show entryFrame m args 3 = entryFrame m ([.ref (o 0), .int (nI k), .int (nI b)] : List Value).toArray 3 from by rw [hav], lg_entry_eq]
  generalize (lg_sl ([.ref (o 0), .int (nI k), .int (nI b)]) ++ List.replicate (3 - (lg_sl ([.ref (o 0), .int (nI k), .int (nI b)])).length) Slot.unset).toArray = ls at hl ⊢
  have hl : lv_has ls 3 [(0, .ref (o 0)), (1, .int (nI k)), (2, .int (nI b))] := hl
  generalize hQe : MQ below _ _ s _ _ _ = Q
  change W p l e ({ frames := 1, cells := 0, slots := 0, locals := 60 } : Room) s m args below meth c s.heap [] 0 0 Q (F0 m 0 ls [])
  refine lv_aload_n hx hb dX7_of_0 rfl (lv_at hl 0 rfl) ?_
  refine va_get (D := (dC, dI)) (ci := 2) (v := .ref (o 5)) (C := RX7) (T := TX7) (N := 27) hx hb hts in_X7 hown hK hP 0 rfl rfl 8 (by decide) (hts _ q2014) (fun _ h9 => h9) rfl dX7_of_1 ?_
  refine lv_bipush (v := nI 33) hx hb dX7_of_4 (by decide) ?_
  refine lv_iload_n hx hb dX7_of_6 rfl (lv_at hl 1 rfl) ?_
  refine lv_imul hx hb dX7_of_7 ?_
  refine e_i (y := nI (33 * k)) (pk_mul _ _) ?_
  refine lv_iconst (v := nI 1) hx hb dX7_of_8 (by decide) ?_
  refine lv_iadd hx hb dX7_of_9 ?_
  refine e_i (y := nI (33 * k + 1)) (nI_add _ _) ?_
  refine lv_iload_n hx hb dX7_of_10 rfl (lv_at hl 2 rfl) ?_
  refine lv_iadd hx hb dX7_of_11 ?_
  refine e_i (y := nI (33 * k + 1 + b)) (nI_add _ _) ?_
  refine a_lald hx hb hK hP 1 1 rfl rfl (by omega) (by omega) dX7_of_12 ?_
  subst hQe
  exact W.lret (v := fA (33 * k + 1 + b)) hx hb hr (fun t ht hW => ⟨_, rfl, rfl, ht⟩) hS.2.2 dX7_of_13
set_option maxHeartbeats 4000000 in
theorem x7_under {l : Launch} {dC : Nat → ClassId} {dI : Nat → Nat → Nat} {dA : Nat → ClassId} {s0 : State} {b0 : Addr} (Z : Z0 l dC dI dA s0 b0) (o : Nat → Nat) (th : Int32) (p0 q0 r0 : Nat) (mu : Int64) (zz : Nat → Int32) (fA : Nat → Int64) (k : Nat) (hk : 33 * k < 2640) : Met l yX7_under (ws_ yX7_under cX7_under 2 (some .long)) ({ frames := 1, cells := 0, slots := 0, locals := 60 } : Room) (gP [.ref (o 0), .int (nI k)] s0 (fun _ => False) (fun H => va_P (dC, dI) vwCl [(o 0, .inr (2, mFs o th p0 q0 r0 mu zz)), (o 5, .inl (dA 1, 2640, .inr (.inl fA)))] H)) (vp_Sl (fun r => r = fA (33 * k))) 0 0 (fun _ => False) := by
  refine Met.ofW (cc := cX7_under) (maxL := 2) (ret := (some .long)) (by decide) rfl ?_
  intro p e s m args below meth c s₁ B hml hv
  obtain ⟨hav, hG, hP⟩ := hv
  have hx := B.exec
  have hb := B.bytes
  have hr := B.returns
  have hts := atoms_spec (ws := (ws_ yX7_under cX7_under 2 (some .long))) B.pre
  have hts : ∀ w ∈ lw_all, w.before _ s = true := fun w h => hts w (List.mem_cons_of_mem _ h)
  have hown : s.vm.findClass RX7 = some m.cls := findClass_of_methodNamed B.named
  have hlocks := B.notSynchronized
  have hK := hG.K Z
  have hS : va_S (fun _ => False) s.heap s.heap [] := va_S.rf
  have hl := lv_entry ([.ref (o 0), .int (nI k)]) (n := 2) (Nat.le_of_ble_eq_true rfl)
  rw [show entryFrame m args 2 = entryFrame m ([.ref (o 0), .int (nI k)] : List Value).toArray 2 from by rw [hav], lg_entry_eq]
  generalize (lg_sl ([.ref (o 0), .int (nI k)]) ++ List.replicate (2 - (lg_sl ([.ref (o 0), .int (nI k)])).length) Slot.unset).toArray = ls at hl ⊢
  have hl : lv_has ls 2 [(0, .ref (o 0)), (1, .int (nI k))] := hl
  generalize hQe : MQ below _ _ s _ _ _ = Q
  change W p l e ({ frames := 1, cells := 0, slots := 0, locals := 60 } : Room) s m args below meth c s.heap [] 0 0 Q (F0 m 0 ls [])
  refine lv_aload_n hx hb dX7_under_0 rfl (lv_at hl 0 rfl) ?_
  refine va_get (D := (dC, dI)) (ci := 2) (v := .ref (o 5)) (C := RX7) (T := TX7) (N := 27) hx hb hts in_X7 hown hK hP 0 rfl rfl 8 (by decide) (hts _ q2014) (fun _ h9 => h9) rfl dX7_under_1 ?_
  refine lv_bipush (v := nI 33) hx hb dX7_under_4 (by decide) ?_
  refine lv_iload_n hx hb dX7_under_6 rfl (lv_at hl 1 rfl) ?_
  refine lv_imul hx hb dX7_under_7 ?_
  refine e_i (y := nI (33 * k)) (pk_mul _ _) ?_
  refine a_lald hx hb hK hP 1 1 rfl rfl (by omega) (by omega) dX7_under_8 ?_
  subst hQe
  exact W.lret (v := fA (33 * k)) hx hb hr (fun t ht hW => ⟨_, rfl, rfl, ht⟩) hS.2.2 dX7_under_9
set_option maxHeartbeats 4000000 in
theorem x7_isSmall {l : Launch} {dC : Nat → ClassId} {dI : Nat → Nat → Nat} {dA : Nat → ClassId} {s0 : State} {b0 : Addr} (Z : Z0 l dC dI dA s0 b0) (v : Int64) : Met l yX7_isSmall (ws_ yX7_isSmall cX7_isSmall 2 (some .boolean)) ({ frames := 1, cells := 0, slots := 0, locals := 60 } : Room) (gP [.long v] s0 (fun _ => False) (fun H => True)) (vp_Si (fun r => r = bI (smallB v))) 0 0 (fun _ => False) := by
  refine Met.ofW (cc := cX7_isSmall) (maxL := 2) (ret := (some .boolean)) (by decide) rfl ?_
  intro p e s m args below meth c s₁ B hml hv
  obtain ⟨hav, hG, hno⟩ := hv
  have hx := B.exec
  have hb := B.bytes
  have hr := B.returns
  have hts := atoms_spec (ws := (ws_ yX7_isSmall cX7_isSmall 2 (some .boolean))) B.pre
  have hts : ∀ w ∈ lw_all, w.before _ s = true := fun w h => hts w (List.mem_cons_of_mem _ h)
  have hown : s.vm.findClass RX7 = some m.cls := findClass_of_methodNamed B.named
  have hlocks := B.notSynchronized
  have hK := hG.K Z
  have hS : va_S (fun _ => False) s.heap s.heap [] := va_S.rf
  have hP : va_P (dC, dI) vwCl [] s.heap := fun k q h => by simp at h
  have hD : va_D (fun _ => False) [] := ⟨fun i j p q h => by simp at h, fun k q h => by simp at h⟩
  have hl := lv_entry ([.long v]) (n := 2) (Nat.le_of_ble_eq_true rfl)
  rw [show entryFrame m args 2 = entryFrame m ([.long v] : List Value).toArray 2 from by rw [hav], lg_entry_eq]
  generalize (lg_sl ([.long v]) ++ List.replicate (2 - (lg_sl ([.long v])).length) Slot.unset).toArray = ls at hl ⊢
  have hl : lv_has ls 2 [(0, .long v)] := hl
  generalize hQe : MQ below _ _ s _ _ _ = Q
  change W p l e ({ frames := 1, cells := 0, slots := 0, locals := 60 } : Room) s m args below meth c s.heap [] 0 0 Q (F0 m 0 ls [])
  refine lv_lload_n hx hb dX7_isSmall_0 rfl (lv_at hl 0 rfl) ?_
  refine lv_ldc2 hx hb hown (hts _ q2137) dX7_isSmall_1 ?_
  refine W.lcmp hx hb dX7_isSmall_4 ?_
  refine lv_if_lt (tgt := 20) hx hb dX7_isSmall_5 (by decide) (fun c_5 => ?_) (fun c_5 => ?_)
  · have c_5 : v < (-100000000 : Int64) := (lg_cmp_lt _ _).mp c_5
    refine lv_iconst (v := nI 0) hx hb dX7_isSmall_20 (by decide) ?_
    subst hQe
    exact W.zret (v := nI 0) hx hb hr rfl (fun t ht hW => ⟨_, rfl, (by unfold smallB; rw [decide_eq_false (fun h => Int64.not_lt.mpr h c_5)]; rfl), ht⟩) hS.2.2 dX7_isSmall_21
  · have c_5 : ¬ v < (-100000000 : Int64) := fun h => c_5 ((lg_cmp_lt _ _).mpr h)
    refine lv_lload_n hx hb dX7_isSmall_8 rfl (lv_at hl 0 rfl) ?_
    refine lv_ldc2 hx hb hown (hts _ q2138) dX7_isSmall_9 ?_
    refine W.lcmp hx hb dX7_isSmall_12 ?_
    refine lv_if_gt (tgt := 20) hx hb dX7_isSmall_13 (by decide) (fun c_13 => ?_) (fun c_13 => ?_)
    · have c_13 : (100000000 : Int64) < v := (lg_cmp_gt _ _).mp c_13
      refine lv_iconst (v := nI 0) hx hb dX7_isSmall_20 (by decide) ?_
      subst hQe
      exact W.zret (v := nI 0) hx hb hr rfl (fun t ht hW => ⟨_, rfl, (by unfold smallB; rw [decide_eq_false (p := v ≤ 100000000) (fun h => Int64.not_lt.mpr h c_13), Bool.and_false]; rfl), ht⟩) hS.2.2 dX7_isSmall_21
    · have c_13 : ¬ (100000000 : Int64) < v := fun h => c_13 ((lg_cmp_gt _ _).mpr h)
      refine lv_iconst (v := nI 1) hx hb dX7_isSmall_16 (by decide) ?_
      refine lv_goto (tgt := 21) hx hb dX7_isSmall_17 (by decide) ?_
      subst hQe
      exact W.zret (v := nI 1) hx hb hr rfl (fun t ht hW => ⟨_, rfl, (by unfold smallB; rw [decide_eq_true (Int64.not_lt.mp c_5), decide_eq_true (Int64.not_lt.mp c_13)]; rfl), ht⟩) hS.2.2 dX7_isSmall_21
