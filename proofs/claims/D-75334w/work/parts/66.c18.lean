/-- the first blade from i on that a multivector has; 32: none -/
def nxN (M : MV) : Nat → Nat → Nat
  | i, 0 => i
  | i, d + 1 => if M (i + 1) = 0 then nxN M (i + 1) d else i
def nxF (M : MV) (i : Nat) : Nat := nxN M i (32 - i)
theorem nxN_s (M : MV) {i d : Nat} (h : M (i + 1) = 0) : nxN M i (d + 1) = nxN M (i + 1) d := by
  show (if M (i + 1) = 0 then nxN M (i + 1) d else i) = _
  rw [if_pos h]
theorem nx_s {M : MV} {k : Nat} (hk : k < 32) (h : M (k + 1) = 0) : nxN M k (32 - k) = nxN M (k + 1) (32 - (k + 1)) := by
  rw [show 32 - k = (32 - (k + 1)) + 1 by omega]; exact nxN_s M h
theorem nx_1 {M : MV} {i k : Nat} (hk : k ≤ 32) (h : 32 ≤ k) (e : nxN M k (32 - k) = nxF M i) : k = nxF M i := by
  obtain rfl : k = 32 := by omega
  exact e
theorem nx_2 {M : MV} {i k : Nat} (hk : k < 32) (h : ¬ M (k + 1) = 0) (e : nxN M k (32 - k) = nxF M i) : k = nxF M i := by
  rw [← e, show 32 - k = (32 - (k + 1)) + 1 by omega]
  show k = (if M (k + 1) = 0 then nxN M (k + 1) _ else k)
  rw [if_neg h]
theorem nxN_at (M : MV) : ∀ d i, i ≤ nxN M i d ∧ nxN M i d ≤ i + d ∧ (∀ j, i ≤ j → j < nxN M i d → M (j + 1) = 0) ∧ (nxN M i d < i + d → ¬ M (nxN M i d + 1) = 0)
  | 0, i => ⟨Nat.le_refl _, Nat.le_refl _, fun j h1 h2 => absurd (show j < i from h2) (by omega), fun h => absurd (show i < i + 0 from h) (by omega)⟩
  | d + 1, i => by
    by_cases h : M (i + 1) = 0
    · rw [nxN_s M h]
      obtain ⟨a, b, c, f⟩ := nxN_at M d (i + 1)
      refine ⟨by omega, by omega, fun j h1 h2 => ?_, fun h2 => f (by omega)⟩
      by_cases e : j = i
      · subst e; exact h
      · exact c j (by omega) h2
    · have e : nxN M i (d + 1) = i := by
        show (if M (i + 1) = 0 then nxN M (i + 1) d else i) = i
        rw [if_neg h]
      rw [e]
      exact ⟨by omega, by omega, fun j h1 h2 => by omega, fun _ => h⟩
theorem nx_le {M : MV} {i : Nat} (h : i ≤ 32) : i ≤ nxF M i ∧ nxF M i ≤ 32 := by
  obtain ⟨a, b, -, -⟩ := nxN_at M (32 - i) i
  exact ⟨a, by show nxN M i (32 - i) ≤ 32; omega⟩
theorem nx_z {M : MV} {i : Nat} : ∀ j, i ≤ j → j < nxF M i → M (j + 1) = 0 := (nxN_at M (32 - i) i).2.2.1
theorem nx_nz {M : MV} {i : Nat} (hi : i ≤ 32) (h : nxF M i < 32) : ¬ M (nxF M i + 1) = 0 := (nxN_at M (32 - i) i).2.2.2 (by show nxF M i < _; omega)
set_option maxHeartbeats 4000000 in
theorem x10_nextI {l : Launch} {dC : Nat → ClassId} {dI : Nat → Nat → Nat} {dA : Nat → ClassId} {s0 : State} {b0 : Addr} (Z : Z0 l dC dI dA s0 b0) (it : Nat) (k9 : Int32) (ma mr : Nat) (M : MV) (i9 : Nat) (hi9 : i9 ≤ 32) : Met l yX10_next (ws_ yX10_next cX10_next 3 (some .int)) ({ frames := 1, cells := 0, slots := 0, locals := 60 } : Room) (gP [.ref it, .int (nI i9)] s0 (fun _ => False) (fun H => va_P (dC, dI) vwCl [(it, .inr (6, [.int k9, .ref ma])), (ma, .inr (0, [.ref mr, .long (M 0)])), (mr, .inl (dA 1, 32, .inr (.inl (fun j => M (j + 1)))))] H)) (vp_Si (fun r => r = nI (nxF M i9))) 0 0 (fun _ => False) := by
  refine Met.ofW (cc := cX10_next) (maxL := 3) (ret := (some .int)) (by decide) rfl ?_
  intro p e s m args below meth c s₁ B hml hv
  obtain ⟨hav, hG, hP⟩ := hv
  have hx := B.exec
  have hb := B.bytes
  have hr := B.returns
  have hts := atoms_spec (ws := (ws_ yX10_next cX10_next 3 (some .int))) B.pre
  have hts : ∀ w ∈ lw_all, w.before _ s = true := fun w h => hts w (List.mem_cons_of_mem _ h)
  have hown : s.vm.findClass RX10 = some m.cls := findClass_of_methodNamed B.named
  have hlocks := B.notSynchronized
  have hK := hG.K Z
  have hS : va_S (fun _ => False) s.heap s.heap [] := va_S.rf
  have hl := lv_entry ([.ref it, .int (nI i9)]) (n := 3) (Nat.le_of_ble_eq_true rfl)
  rw [show entryFrame m args 3 = entryFrame m ([.ref it, .int (nI i9)] : List Value).toArray 3 from by rw [hav], lg_entry_eq]
  generalize (lg_sl ([.ref it, .int (nI i9)]) ++ List.replicate (3 - (lg_sl ([.ref it, .int (nI i9)])).length) Slot.unset).toArray = ls at hl ⊢
  have hl : lv_has ls 3 [(0, .ref it), (1, .int (nI i9))] := hl
  generalize hQe : MQ below _ _ s _ _ _ = Q
  change W p l e ({ frames := 1, cells := 0, slots := 0, locals := 60 } : Room) s m args below meth c s.heap [] 0 0 Q (F0 m 0 ls [])
  refine lv_iload_n hx hb dX10_next_0 rfl (lv_at hl 1 rfl) ?_
  refine lv_istore_n (lv' := [(2, .int (nI i9)), (0, .ref it), (1, .int (nI i9))]) hx hb dX10_next_1 rfl hl (by decide) rfl (fun ls hl => ?_)
  have loop_1 : ∀ (n9_1 : Nat) (k : Nat) (ls : Array Slot), 33 - k < n9_1 → (k ≤ 32) → (nxN M k (32 - k) = nxF M i9) → lv_has ls 3 [(0, .ref it), (1, .int (nI i9)), (2, .int (nI k))] → W p l e ({ frames := 1, cells := 0, slots := 0, locals := 60 } : Room) s m args below meth c s.heap [] 0 0 Q (F0 m 2 ls []) := by
    intro n9_1
    induction n9_1 with
    | zero => intro k ls hm_1; exact absurd hm_1 (Nat.not_lt_zero _)
    | succ n9_1 ih_1 =>
      intro k ls hm_1 hk9 hnx hl
      refine lv_iload_n hx hb dX10_next_2 rfl (lv_at hl 2 rfl) ?_
      refine lv_bipush (v := nI 32) hx hb dX10_next_3 (by decide) ?_
      refine lv_icmp_ge (tgt := 28) hx hb dX10_next_5 (by decide) (fun c_5 => ?_) (fun c_5 => ?_)
      · have c_5 : 32 ≤ k := (nI_leI (a := 32) (b := k) (by omega) (by omega)).mp c_5
        refine lv_iload_n hx hb dX10_next_28 rfl (lv_at hl 2 rfl) ?_
        subst hQe
        exact W.iret (v := nI k) hx hb hr (fun tz ht hW => ⟨_, rfl, (n_eq (nx_1 hk9 c_5 hnx)), ht⟩) hS.2.2 dX10_next_29
      · have c_5 : ¬ 32 ≤ k := fun h => c_5 ((nI_leI (a := 32) (b := k) (by omega) (by omega)).mpr h)
        refine lv_aload_n hx hb dX10_next_8 rfl (lv_at hl 0 rfl) ?_
        refine va_get (D := (dC, dI)) (ci := 6) (v := .ref ma) (C := RX10) (T := TX10) (N := 2) hx hb hts in_X10 hown hK hP 0 rfl rfl 1 (by decide) (hts _ q939) (fun _ h9 => h9) rfl dX10_next_9 ?_
        refine va_getN (D := (dC, dI)) (ci := 0) (v := .ref mr) (C := RX6) (T := TX6) (N := 2) hx hb hts in_X6 hown hK hP 1 rfl rfl 0 (by decide) (((va_Nw.warmF hG.1 (va_Nw.of rfl (Z.2.1 _ q550)))).use rfl) (fun _ h9 => h9) rfl dX10_next_12 ?_
        refine lv_iload_n hx hb dX10_next_15 rfl (lv_at hl 2 rfl) ?_
        refine a_lald hx hb hK hP 2 1 rfl rfl (by omega) (by omega) dX10_next_16 ?_
        refine lv_lconst (v := 0) hx hb dX10_next_17 rfl ?_
        refine W.lcmp hx hb dX10_next_18 ?_
        refine lv_if_ne (tgt := 28) hx hb dX10_next_19 (by decide) (fun c_19 => ?_) (fun c_19 => ?_)
        · have c_19 : ¬ ((fun j => M (j + 1)) k) = 0 := fun h => c_19 ((lg_cmp_eq _ _).mpr h)
          refine lv_iload_n hx hb dX10_next_28 rfl (lv_at hl 2 rfl) ?_
          subst hQe
          exact W.iret (v := nI k) hx hb hr (fun tz ht hW => ⟨_, rfl, (n_eq (nx_2 (by omega) c_19 hnx)), ht⟩) hS.2.2 dX10_next_29
        · have c_19 : ((fun j => M (j + 1)) k) = 0 := (lg_cmp_eq _ _).mp c_19
          have hz9 := c_19
          refine lv_iinc (v := nI (k + 1)) (lv' := [(2, .int (nI (k + 1))), (0, .ref it), (1, .int (nI i9))]) hx hb dX10_next_22 hl (k := 2) rfl (by exact nI_add _ 1) (by decide) rfl (fun ls hl => ?_)
          refine lv_goto (tgt := 2) hx hb dX10_next_25 (by decide) ?_
          exact ih_1 (k + 1) ls (by omega) (by omega) ((nx_s (by omega) hz9).symm.trans hnx) (lv_sub hl [1, 2, 0] rfl)
  exact loop_1 _ i9 ls (Nat.lt_succ_self _) hi9 rfl (lv_sub hl [1, 2, 0] rfl)
set_option maxHeartbeats 4000000 in
theorem x10_init {l : Launch} {dC : Nat → ClassId} {dI : Nat → Nat → Nat} {dA : Nat → ClassId} {s0 : State} {b0 : Addr} (Z : Z0 l dC dI dA s0 b0) (A : Nat → Prop) (sz : Nat) (hA : ∀ q : Nat, sz ≤ q → A q) (it : Nat) (ma mr : Nat) (M : MV) : Met l yX10_init (ws_ yX10_init cX10_init 2 none) ({ frames := 3, cells := 0, slots := 0, locals := 180 } : Room) (gP [.ref it, .ref ma] s0 A (fun H => H.size = sz ∧ va_P (dC, dI) vwCl [(it, .inr (6, [.int 0, .null]))] H ∧ va_D A [(it, .inr (6, [.int 0, .null]))] ∧ RO A (dC, dI) [(ma, .inr (0, [.ref mr, .long (M 0)])), (mr, .inl (dA 1, 32, .inr (.inl (fun j => M (j + 1)))))] H)) (va_Qv (S := Unit) (fun _ => True) (B1 (dC, dI) A (fun _ => [(it, .inr (6, [.int (nI (nxF M 0)), .ref ma]))]) (fun _ _ => True)) A) 0 0 A := by
  refine Met.ofW (cc := cX10_init) (maxL := 2) (ret := none) (by decide) rfl ?_
  intro p e s m args below meth c s₁ B hml hv
  obtain ⟨hav, hG, hsz, hP, hD, hR0⟩ := hv
  have hx := B.exec
  have hb := B.bytes
  have hr := B.returns
  have hts := atoms_spec (ws := (ws_ yX10_init cX10_init 2 none)) B.pre
  have hts : ∀ w ∈ lw_all, w.before _ s = true := fun w h => hts w (List.mem_cons_of_mem _ h)
  have hown : s.vm.findClass RX10 = some m.cls := findClass_of_methodNamed B.named
  have hlocks := B.notSynchronized
  have hK := hG.K Z
  have hin : meth.name = "<init>" := (name_of_methodNamed B.named B.method).1
  subst hsz
  have hS : va_S A s.heap s.heap [] := va_S.rf
  have hl := lv_entry ([.ref it, .ref ma]) (n := 2) (Nat.le_of_ble_eq_true rfl)
  rw [show entryFrame m args 2 = entryFrame m ([.ref it, .ref ma] : List Value).toArray 2 from by rw [hav], lg_entry_eq]
  generalize (lg_sl ([.ref it, .ref ma]) ++ List.replicate (2 - (lg_sl ([.ref it, .ref ma])).length) Slot.unset).toArray = ls at hl ⊢
  have hl : lv_has ls 2 [(0, .ref it), (1, .ref ma)] := hl
  generalize hQe : MQ below _ _ s _ _ _ = Q
  change W p l e ({ frames := 3, cells := 0, slots := 0, locals := 180 } : Room) s m args below meth c s.heap [] 0 0 Q (F0 m 0 ls [])
  refine lv_aload_n hx hb dX10_init_0 rfl (lv_at hl 0 rfl) ?_
  refine lv_aload_n hx hb dX10_init_1 rfl (lv_at hl 1 rfl) ?_
  refine va_putF (D := (dC, dI)) (ci := 6) (v := .ref ma) (ty := (tyX10 1)) (C := RX10) (T := TX10) (N := 2) hx hb hts in_X10 tyX10 tyX10_ok nmX10 hown hK hP hD hS 0 rfl rfl 1 (by decide) (hts _ q939) (fun _ h9 => h9) rfl hin rfl (by decide +kernel) rfl rfl (Nat.le_of_ble_eq_true rfl) dX10_init_2 (fun H locs hP hD hS => ?_)
  have hP : va_P (dC, dI) vwCl [(it, .inr (6, [.int 0, .ref ma]))] H := hP
  have hD : va_D A [(it, .inr (6, [.int 0, .ref ma]))] := hD
  refine lv_aload_n hx hb dX10_init_5 rfl (lv_at hl 0 rfl) ?_
  refine W.objInit hx hb hown (hts _ q933) (hts _ q151) (hts _ q152) rfl (by rw [hml]; exact hl.1) rfl dX10_init_6 (Nat.le_of_ble_eq_true rfl) (Nat.le_of_ble_eq_true rfl) ?_
  show W p l e ({ frames := 3, cells := 0, slots := 0, locals := 180 } : Room) s m args below meth c H locs 0 0 Q (F0 m 9 ls [])
  refine lv_aload_n hx hb dX10_init_9 rfl (lv_at hl 0 rfl) ?_
  refine lv_aload_n hx hb dX10_init_10 rfl (lv_at hl 0 rfl) ?_
  refine lv_iconst (v := nI 0) hx hb dX10_init_11 (by decide) ?_
  refine s_i (va_runV (As := [.int (nI 0)]) (rest := [.ref it]) ⟨hx, hb, hml, hown, hts⟩ (x10_nextI Z it 0 ma mr M 0 (by omega)) (cwV 1 hts (lw_V q934 q936 qs10 q120 q937) rfl rfl rfl (by decide +kernel) ⟨Nat.le_of_ble_eq_true rfl, Nat.le_of_ble_eq_true rfl⟩) (gP_V (va_recv hK hP (ci := 6) (q0 := 0) rfl rfl) hG hS (fun q _ h => h.elim) (va_P.app (hP.sub (ws' := [(it, .inr (6, [.int 0, .ref ma]))]) [0] rfl) ((hR0.up hS).sub (ws' := [(ma, .inr (0, [.ref mr, .long (M 0)])), (mr, .inl (dA 1, 32, .inr (.inl (fun j => M (j + 1)))))]) [0, 1] rfl))) rfl rfl hl.1 rfl (lv_room (Nat.le_of_ble_eq_true rfl)) dX10_init_12 ⟨by first | decide | omega | (show _ ≤ (0 : Nat); omega), by first | decide | omega | (show _ ≤ (0 : Nat); omega)⟩) ?_
  refine va_put (D := (dC, dI)) (ci := 6) (v := .int (nI (nxF M 0))) (ty := .int) (C := RX10) (T := TX10) (N := 2) hx hb hts in_X10 tyX10 tyX10_ok nmX10 hown hK hP hD hS 0 rfl rfl 0 (by decide) (hts _ q938) (fun _ h9 => h9) rfl (by decide +kernel) rfl rfl (Nat.le_of_ble_eq_true rfl) dX10_init_15 (fun H locs hP hD hS => ?_)
  have hP : va_P (dC, dI) vwCl [(it, .inr (6, [.int (nI (nxF M 0)), .ref ma]))] H := hP
  have hD : va_D A [(it, .inr (6, [.int (nI (nxF M 0)), .ref ma]))] := hD
  subst hQe
  exact W.vret hx hb hr (fun tz ht hW => ⟨⟨(), rfl, trivial, B1_at ht (hP.sub [0] rfl) (hD.sub [0] (by decide) rfl) trivial⟩, hS.F ht⟩) hS.2.2 dX10_init_18
set_option maxHeartbeats 4000000 in
theorem x6_iterator {l : Launch} {dC : Nat → ClassId} {dI : Nat → Nat → Nat} {dA : Nat → ClassId} {s0 : State} {b0 : Addr} (Z : Z0 l dC dI dA s0 b0) (A : Nat → Prop) (sz : Nat) (hA : ∀ q : Nat, sz ≤ q → A q) (ma mr : Nat) (M : MV) : Met l yX6_iterator (ws_ yX6_iterator cX6_iterator 1 (some (.object "java/util/Iterator"))) ({ frames := 4, cells := 1, slots := 2, locals := 240 } : Room) (gP [.ref ma] s0 A (fun H => H.size = sz ∧ RO A (dC, dI) [(ma, .inr (0, [.ref mr, .long (M 0)])), (mr, .inl (dA 1, 32, .inr (.inl (fun j => M (j + 1)))))] H)) (va_Qr (S := Unit) (fun _ => True) (B1r (dC, dI) A (fun _ q => [(q, .inr (6, [.int (nI (nxF M 0)), .ref ma]))]) (fun _ _ _ => True)) A) 1 2 A := by
  refine Met.ofW (cc := cX6_iterator) (maxL := 1) (ret := (some (.object "java/util/Iterator"))) (by decide) rfl ?_
  intro p e s m args below meth c s₁ B hml hv
  obtain ⟨hav, hG, hsz, hR0⟩ := hv
  have hx := B.exec
  have hb := B.bytes
  have hr := B.returns
  have hts := atoms_spec (ws := (ws_ yX6_iterator cX6_iterator 1 (some (.object "java/util/Iterator")))) B.pre
  have hts : ∀ w ∈ lw_all, w.before _ s = true := fun w h => hts w (List.mem_cons_of_mem _ h)
  have hown : s.vm.findClass RX6 = some m.cls := findClass_of_methodNamed B.named
  have hlocks := B.notSynchronized
  have hK := hG.K Z
  subst hsz
  have hS : va_S A s.heap s.heap [] := va_S.rf
  have hP : va_P (dC, dI) vwCl [] s.heap := fun k q h => by simp at h
  have hD : va_D A [] := ⟨fun i j p q h => by simp at h, fun k q h => by simp at h⟩
  have hl := lv_entry ([.ref ma]) (n := 1) (Nat.le_of_ble_eq_true rfl)
  rw [show entryFrame m args 1 = entryFrame m ([.ref ma] : List Value).toArray 1 from by rw [hav], lg_entry_eq]
  generalize (lg_sl ([.ref ma]) ++ List.replicate (1 - (lg_sl ([.ref ma])).length) Slot.unset).toArray = ls at hl ⊢
  have hl : lv_has ls 1 [(0, .ref ma)] := hl
  generalize hQe : MQ below _ _ s _ _ _ = Q
  change W p l e ({ frames := 4, cells := 1, slots := 2, locals := 240 } : Room) s m args below meth c s.heap [] 0 0 Q (F0 m 0 ls [])
  refine va_new (D := (dC, dI)) (ci := 6) (fs := [.int 0, .null]) (C := RX10) (T := TX10) (N := 2) hx hb hts in_X10 tyX10 tyX10_ok hown (hts _ q928) (hts _ q929) (hts _ q120) hK hP hD hS hA rfl (fun j hj => by rcases (show j = 0 ∨ j = 1 by omega) with rfl | rfl <;> rfl) (by first | decide | omega) (by first | decide | omega) dX6_iterator_0 (fun nw_1 H hP hD hS => ?_)
  have hP : va_P (dC, dI) vwCl [(nw_1, .inr (6, [.int 0, .null]))] H := hP
  have hD : va_D A [(nw_1, .inr (6, [.int 0, .null]))] := hD
  refine lv_dup hx hb dX6_iterator_3 rfl ?_
  refine lv_aload_n hx hb dX6_iterator_4 rfl (lv_at hl 0 rfl) ?_
  have hF9 := va_free (wc := [(nw_1, .inr (6, [.int 0, .null]))]) hD hS (fun q h => hA q h) [0] rfl
  refine c_v (wr := []) (va_runI (As := [.ref ma]) (rest := [.ref nw_1]) ⟨hx, hb, hml, hown, hts⟩ (x10_init Z (va_A [(nw_1, .inr (6, [.int 0, .null]))] H.size) H.size (fun q h => Or.inr h) nw_1 ma mr M) (cwI 1 hts (lw_meth q932) rfl rfl rfl (hts _ q120) (hts _ q930) (hts _ q931) rfl (by decide +kernel) ⟨Nat.le_of_ble_eq_true rfl, Nat.le_of_ble_eq_true rfl⟩) (gP_S hG hS (fun q _ h => hF9 q h) ⟨rfl, (hP.sub (ws' := [(nw_1, .inr (6, [.int 0, .null]))]) [0] rfl), (hD.sub (ws' := [(nw_1, .inr (6, [.int 0, .null]))]) [0] (by decide) rfl).self, (hR0.to hS (fun q _ h => hF9 q h))⟩) rfl rfl hl.1 rfl (lv_room (Nat.le_of_ble_eq_true rfl)) dX6_iterator_5 ⟨by first | decide | omega | (show _ ≤ (1 : Nat); omega), by first | decide | omega | (show _ ≤ (2 : Nat); omega)⟩) hP hD hS hA [0] [] rfl rfl (by decide) (by decide) (fun u9 H locs hq hX hz hk hP hD hS => ?_)
  have hP : va_P (dC, dI) vwCl [(nw_1, .inr (6, [.int (nI (nxF M 0)), .ref ma]))] H := hP
  have hD : va_D A [(nw_1, .inr (6, [.int (nI (nxF M 0)), .ref ma]))] := hD
  subst hQe
  refine W.widen (k := 1) (n := 2) (by first | decide | omega) (by first | decide | omega) ?_
  exact W.aret (v := .ref nw_1) hx hb hr (Or.inl ⟨_, rfl⟩) (Or.inr ⟨_, rfl⟩) (fun tz ht hW => ⟨⟨(), nw_1, rfl, trivial, B1r_at ht (hP.sub [0] rfl) (hD.sub [0] (by decide) rfl) trivial⟩, hS.F ht⟩) hS.2.2 dX6_iterator_8
set_option maxHeartbeats 4000000 in
theorem x10_hasNext {l : Launch} {dC : Nat → ClassId} {dI : Nat → Nat → Nat} {dA : Nat → ClassId} {s0 : State} {b0 : Addr} (Z : Z0 l dC dI dA s0 b0) (A : Nat → Prop) (sz : Nat) (hA : ∀ q : Nat, sz ≤ q → A q) (it ma k9 : Nat) (hk9 : k9 ≤ 32) : Met l yX10_hasNext (ws_ yX10_hasNext cX10_hasNext 1 (some .boolean)) ({ frames := 1, cells := 0, slots := 0, locals := 60 } : Room) (gP [.ref it] s0 A (fun H => H.size = sz ∧ va_P (dC, dI) vwCl [(it, .inr (6, [.int (nI k9), .ref ma]))] H ∧ va_D A [(it, .inr (6, [.int (nI k9), .ref ma]))])) (va_Qi (S := Unit) (fun r9 _ => r9 = bI (decide (k9 < 32))) (B1 (dC, dI) A (fun _ => [(it, .inr (6, [.int (nI k9), .ref ma]))]) (fun _ _ => True)) A) 0 0 A := by
  refine Met.ofW (cc := cX10_hasNext) (maxL := 1) (ret := (some .boolean)) (by decide) rfl ?_
  intro p e s m args below meth c s₁ B hml hv
  obtain ⟨hav, hG, hsz, hP, hD⟩ := hv
  have hx := B.exec
  have hb := B.bytes
  have hr := B.returns
  have hts := atoms_spec (ws := (ws_ yX10_hasNext cX10_hasNext 1 (some .boolean))) B.pre
  have hts : ∀ w ∈ lw_all, w.before _ s = true := fun w h => hts w (List.mem_cons_of_mem _ h)
  have hown : s.vm.findClass RX10 = some m.cls := findClass_of_methodNamed B.named
  have hlocks := B.notSynchronized
  have hK := hG.K Z
  subst hsz
  have hS : va_S A s.heap s.heap [] := va_S.rf
  have hl := lv_entry ([.ref it]) (n := 1) (Nat.le_of_ble_eq_true rfl)
  rw [show entryFrame m args 1 = entryFrame m ([.ref it] : List Value).toArray 1 from by rw [hav], lg_entry_eq]
  generalize (lg_sl ([.ref it]) ++ List.replicate (1 - (lg_sl ([.ref it])).length) Slot.unset).toArray = ls at hl ⊢
  have hl : lv_has ls 1 [(0, .ref it)] := hl
  generalize hQe : MQ below _ _ s _ _ _ = Q
  change W p l e ({ frames := 1, cells := 0, slots := 0, locals := 60 } : Room) s m args below meth c s.heap [] 0 0 Q (F0 m 0 ls [])
  refine lv_aload_n hx hb dX10_hasNext_0 rfl (lv_at hl 0 rfl) ?_
  refine va_get (D := (dC, dI)) (ci := 6) (v := .int (nI k9)) (C := RX10) (T := TX10) (N := 2) hx hb hts in_X10 hown hK hP 0 rfl rfl 0 (by decide) (hts _ q938) (fun _ h9 => h9) rfl dX10_hasNext_1 ?_
  refine lv_bipush (v := nI 32) hx hb dX10_hasNext_4 (by decide) ?_
  refine lv_icmp_ge (tgt := 13) hx hb dX10_hasNext_6 (by decide) (fun c_6 => ?_) (fun c_6 => ?_)
  · have c_6 : 32 ≤ k9 := (nI_leI (a := 32) (b := k9) (by omega) (by omega)).mp c_6
    refine lv_iconst (v := nI 0) hx hb dX10_hasNext_13 (by decide) ?_
    subst hQe
    exact W.zret (v := nI 0) hx hb hr rfl (fun tz ht hW => ⟨⟨_, (), rfl, (by rw [decide_eq_false (show ¬ k9 < 32 by omega)]; rfl), B1_at ht (hP.sub [0] rfl) (hD.sub [0] (by decide) rfl) trivial⟩, hS.F ht⟩) hS.2.2 dX10_hasNext_14
  · have c_6 : ¬ 32 ≤ k9 := fun h => c_6 ((nI_leI (a := 32) (b := k9) (by omega) (by omega)).mpr h)
    refine lv_iconst (v := nI 1) hx hb dX10_hasNext_9 (by decide) ?_
    refine lv_goto (tgt := 14) hx hb dX10_hasNext_10 (by decide) ?_
    subst hQe
    exact W.zret (v := nI 1) hx hb hr rfl (fun tz ht hW => ⟨⟨_, (), rfl, (by rw [decide_eq_true (show k9 < 32 by omega)]; rfl), B1_at ht (hP.sub [0] rfl) (hD.sub [0] (by decide) rfl) trivial⟩, hS.F ht⟩) hS.2.2 dX10_hasNext_14
set_option maxHeartbeats 4000000 in
theorem x10_nextT {l : Launch} {dC : Nat → ClassId} {dI : Nat → Nat → Nat} {dA : Nat → ClassId} {s0 : State} {b0 : Addr} (Z : Z0 l dC dI dA s0 b0) (A : Nat → Prop) (sz : Nat) (hA : ∀ q : Nat, sz ≤ q → A q) (it : Nat) (ma mr : Nat) (M : MV) (k9 : Nat) (hk9 : k9 < 32) (sM : MSm M) : Met l yX10_next_3 (ws_ yX10_next_3 cX10_next_3 2 (some (.object "BladeAlgebra$Term"))) ({ frames := 5, cells := 1, slots := 3, locals := 300 } : Room) (gP [.ref it] s0 A (fun H => H.size = sz ∧ va_P (dC, dI) vwCl [(it, .inr (6, [.int (nI k9), .ref ma]))] H ∧ va_D A [(it, .inr (6, [.int (nI k9), .ref ma]))] ∧ RO A (dC, dI) [(ma, .inr (0, [.ref mr, .long (M 0)])), (mr, .inl (dA 1, 32, .inr (.inl (fun j => M (j + 1)))))] H)) (va_Qr (S := Unit) (fun _ => True) (B1r (dC, dI) A (fun _ q => [(it, .inr (6, [.int (nI (nxF M (k9 + 1))), .ref ma])), (q, .inr (5, [.int (nI k9), .long (M (k9 + 1) / gcdL (M (k9 + 1)) (M 0)), .long (M 0 / gcdL (M (k9 + 1)) (M 0))]))]) (fun _ _ _ => True)) A) 1 3 A := by
  refine Met.ofW (cc := cX10_next_3) (maxL := 2) (ret := (some (.object "BladeAlgebra$Term"))) (by decide) rfl ?_
  intro p e s m args below meth c s₁ B hml hv
  obtain ⟨hav, hG, hsz, hP, hD, hR0⟩ := hv
  have hx := B.exec
  have hb := B.bytes
  have hr := B.returns
  have hts := atoms_spec (ws := (ws_ yX10_next_3 cX10_next_3 2 (some (.object "BladeAlgebra$Term")))) B.pre
  have hts : ∀ w ∈ lw_all, w.before _ s = true := fun w h => hts w (List.mem_cons_of_mem _ h)
  have hown : s.vm.findClass RX10 = some m.cls := findClass_of_methodNamed B.named
  have hlocks := B.notSynchronized
  have hK := hG.K Z
  subst hsz
  have hS : va_S A s.heap s.heap [] := va_S.rf
  have hl := lv_entry ([.ref it]) (n := 2) (Nat.le_of_ble_eq_true rfl)
  rw [show entryFrame m args 2 = entryFrame m ([.ref it] : List Value).toArray 2 from by rw [hav], lg_entry_eq]
  generalize (lg_sl ([.ref it]) ++ List.replicate (2 - (lg_sl ([.ref it])).length) Slot.unset).toArray = ls at hl ⊢
  have hl : lv_has ls 2 [(0, .ref it)] := hl
  generalize hQe : MQ below _ _ s _ _ _ = Q
  change W p l e ({ frames := 5, cells := 1, slots := 3, locals := 300 } : Room) s m args below meth c s.heap [] 0 0 Q (F0 m 0 ls [])
  refine lv_aload_n hx hb dX10_next_3_0 rfl (lv_at hl 0 rfl) ?_
  have hF9 := va_free (wc := [(it, .inr (6, [.int (nI k9), .ref ma]))]) hD hS (fun q h => hA q h) [0] rfl
  refine c_i (wr := []) (va_runV (As := []) (rest := []) ⟨hx, hb, hml, hown, hts⟩ (x10_hasNext Z (va_A [(it, .inr (6, [.int (nI k9), .ref ma]))] s.heap.size) s.heap.size (fun q h => Or.inr h) it ma k9 (by omega)) (cwV 0 hts (lw_V q974 q952 q2532 q120 q954) rfl rfl rfl (by decide +kernel) ⟨Nat.le_of_ble_eq_true rfl, Nat.le_of_ble_eq_true rfl⟩) (gP_V (va_recv hK hP (ci := 6) (q0 := 0) rfl rfl) hG hS (fun q _ h => hF9 q h) ⟨rfl, (hP.sub (ws' := [(it, .inr (6, [.int (nI k9), .ref ma]))]) [0] rfl), (hD.sub (ws' := [(it, .inr (6, [.int (nI k9), .ref ma]))]) [0] (by decide) rfl).self⟩) rfl rfl hl.1 rfl (lv_room (Nat.le_of_ble_eq_true rfl)) dX10_next_3_1 ⟨by first | decide | omega | (show _ ≤ (1 : Nat); omega), by first | decide | omega | (show _ ≤ (3 : Nat); omega)⟩) hP hD hS hA [0] [] rfl rfl (by decide) (by decide) (fun r9 u9 H locs hq hX hz hk hP hD hS => ?_)
  have hr9 := hq
  clear hq
  obtain ⟨r_1, rfl⟩ : ∃ z, z = r9 := ⟨_, rfl⟩
  subst hr9
  have hP : va_P (dC, dI) vwCl [(it, .inr (6, [.int (nI k9), .ref ma]))] H := hP
  have hD : va_D A [(it, .inr (6, [.int (nI k9), .ref ma]))] := hD
  refine lv_if_ne (tgt := 15) hx hb dX10_next_3_4 (by decide) (fun c_4 => ?_) (fun c_4 => ?_)
  · refine va_new (D := (dC, dI)) (ci := 5) (fs := [.int 0, .long 0, .long 0]) (C := RX9) (T := TX9) (N := 3) hx hb hts in_X9 tyX9 tyX9_ok hown (hts _ q996) (hts _ q580) (hts _ q117) hK hP hD hS hA rfl (fun j hj => by rcases (show j = 0 ∨ j = 1 ∨ j = 2 by omega) with rfl | rfl | rfl <;> rfl) (by first | decide | omega) (by first | decide | omega) dX10_next_3_15 (fun nw_2 H hP hD hS => ?_)
    have hP : va_P (dC, dI) vwCl [(it, .inr (6, [.int (nI k9), .ref ma])), (nw_2, .inr (5, [.int 0, .long 0, .long 0]))] H := hP
    have hD : va_D A [(it, .inr (6, [.int (nI k9), .ref ma])), (nw_2, .inr (5, [.int 0, .long 0, .long 0]))] := hD
    refine lv_dup hx hb dX10_next_3_18 rfl ?_
    refine lv_aload_n hx hb dX10_next_3_19 rfl (lv_at hl 0 rfl) ?_
    refine va_get (D := (dC, dI)) (ci := 6) (v := .int (nI k9)) (C := RX10) (T := TX10) (N := 2) hx hb hts in_X10 hown hK hP 0 rfl rfl 0 (by decide) (hts _ q938) (fun _ h9 => h9) rfl dX10_next_3_20 ?_
    refine lv_aload_n hx hb dX10_next_3_23 rfl (lv_at hl 0 rfl) ?_
    refine va_get (D := (dC, dI)) (ci := 6) (v := .ref ma) (C := RX10) (T := TX10) (N := 2) hx hb hts in_X10 hown hK hP 0 rfl rfl 1 (by decide) (hts _ q939) (fun _ h9 => h9) rfl dX10_next_3_24 ?_
    refine va_getN (D := (dC, dI)) (ci := 0) (v := .ref mr) (C := RX6) (T := TX6) (N := 2) hx hb hts in_X6 hown hK (hR0.up hS) 0 rfl rfl 0 (by decide) (((va_Nw.warmF hG.1 (va_Nw.of rfl (Z.2.1 _ q550)))).use rfl) (fun _ h9 => h9) rfl dX10_next_3_27 ?_
    refine lv_aload_n hx hb dX10_next_3_30 rfl (lv_at hl 0 rfl) ?_
    refine va_get (D := (dC, dI)) (ci := 6) (v := .int (nI k9)) (C := RX10) (T := TX10) (N := 2) hx hb hts in_X10 hown hK hP 0 rfl rfl 0 (by decide) (hts _ q938) (fun _ h9 => h9) rfl dX10_next_3_31 ?_
    refine a_lald hx hb hK (hR0.up hS) 1 1 rfl rfl (by omega) (by omega) dX10_next_3_34 ?_
    refine lv_aload_n hx hb dX10_next_3_35 rfl (lv_at hl 0 rfl) ?_
    refine va_get (D := (dC, dI)) (ci := 6) (v := .ref ma) (C := RX10) (T := TX10) (N := 2) hx hb hts in_X10 hown hK hP 0 rfl rfl 1 (by decide) (hts _ q939) (fun _ h9 => h9) rfl dX10_next_3_36 ?_
    refine va_getN (D := (dC, dI)) (ci := 0) (v := .long (M 0)) (C := RX6) (T := TX6) (N := 2) hx hb hts in_X6 hown hK (hR0.up hS) 0 rfl rfl 1 (by decide) (((va_Nw.warmF hG.1 (va_Nw.of rfl (Z.2.1 _ q554)))).use rfl) (fun _ h9 => h9) rfl dX10_next_3_39 ?_
    have hF9 := va_free (wc := [(nw_2, .inr (5, [.int 0, .long 0, .long 0]))]) hD hS (fun q h => hA q h) [1] rfl
    refine c_v (wr := [(it, .inr (6, [.int (nI k9), .ref ma]))]) (va_runI (As := [.int (nI k9), .long ((fun j => M (j + 1)) k9), .long (M 0)]) (rest := [.ref nw_2]) ⟨hx, hb, hml, hown, hts⟩ (x9_init Z (va_A [(nw_2, .inr (5, [.int 0, .long 0, .long 0]))] H.size) H.size (fun q h => Or.inr h) nw_2 (nI k9) ((fun j => M (j + 1)) k9) (M 0) (ne_min_of (sM.c hk9) (by decide)) (ne_min_of sM.u (by decide)) (gcd_nz sM.1 (ne_min_of sM.u (by decide)))) (cwI 3 hts (lw_meth q583) rfl rfl rfl (hts _ q117) (hts _ q997) (hts _ q582) rfl (by decide +kernel) ⟨Nat.le_of_ble_eq_true rfl, Nat.le_of_ble_eq_true rfl⟩) (gP_S hG hS (fun q _ h => hF9 q h) ⟨rfl, (hP.sub (ws' := [(nw_2, .inr (5, [.int 0, .long 0, .long 0]))]) [1] rfl), (hD.sub (ws' := [(nw_2, .inr (5, [.int 0, .long 0, .long 0]))]) [1] (by decide) rfl).self⟩) rfl rfl hl.1 rfl (lv_room (Nat.le_of_ble_eq_true rfl)) dX10_next_3_42 ⟨by first | decide | omega | (show _ ≤ (1 : Nat); omega), by first | decide | omega | (show _ ≤ (3 : Nat); omega)⟩) hP hD hS hA [1] [0] rfl rfl (by decide) (by decide) (fun u9 H locs hq hX hz hk hP hD hS => ?_)
    have hP : va_P (dC, dI) vwCl [(it, .inr (6, [.int (nI k9), .ref ma])), (nw_2, .inr (5, [.int (nI k9), .long (((fun j => M (j + 1)) k9) / gcdL ((fun j => M (j + 1)) k9) (M 0)), .long ((M 0) / gcdL ((fun j => M (j + 1)) k9) (M 0))]))] H := hP
    have hD : va_D A [(it, .inr (6, [.int (nI k9), .ref ma])), (nw_2, .inr (5, [.int (nI k9), .long (((fun j => M (j + 1)) k9) / gcdL ((fun j => M (j + 1)) k9) (M 0)), .long ((M 0) / gcdL ((fun j => M (j + 1)) k9) (M 0))]))] := hD
    refine lv_astore_n (lv' := [(1, .ref nw_2), (0, .ref it)]) hx hb dX10_next_3_45 rfl hl (by decide) rfl (fun ls hl => ?_)
    refine lv_aload_n hx hb dX10_next_3_46 rfl (lv_at hl 1 rfl) ?_
    refine lv_aload_n hx hb dX10_next_3_47 rfl (lv_at hl 1 rfl) ?_
    refine lv_aload_n hx hb dX10_next_3_48 rfl (lv_at hl 1 rfl) ?_
    refine va_get (D := (dC, dI)) (ci := 6) (v := .int (nI k9)) (C := RX10) (T := TX10) (N := 2) hx hb hts in_X10 hown hK hP 0 rfl rfl 0 (by decide) (hts _ q938) (fun _ h9 => h9) rfl dX10_next_3_49 ?_
    refine lv_iconst (v := nI 1) hx hb dX10_next_3_52 (by decide) ?_
    refine lv_iadd hx hb dX10_next_3_53 ?_
    refine e_i (y := nI (k9 + 1)) (nI_add _ _) ?_
    refine s_i (va_runV (As := [.int (nI (k9 + 1))]) (rest := [.ref it]) ⟨hx, hb, hml, hown, hts⟩ (x10_nextI Z it (nI k9) ma mr M (k9 + 1) (by omega)) (cwV 1 hts (lw_V q934 q936 qs10 q120 q937) rfl rfl rfl (by decide +kernel) ⟨Nat.le_of_ble_eq_true rfl, Nat.le_of_ble_eq_true rfl⟩) (gP_V (va_recv hK hP (ci := 6) (q0 := 0) rfl rfl) hG hS (fun q _ h => h.elim) (va_P.app (hP.sub (ws' := [(it, .inr (6, [.int (nI k9), .ref ma]))]) [0] rfl) ((hR0.up hS).sub (ws' := [(ma, .inr (0, [.ref mr, .long (M 0)])), (mr, .inl (dA 1, 32, .inr (.inl (fun j => M (j + 1)))))]) [0, 1] rfl))) rfl rfl hl.1 rfl (lv_room (Nat.le_of_ble_eq_true rfl)) dX10_next_3_54 ⟨by first | decide | omega | (show _ ≤ (1 : Nat); omega), by first | decide | omega | (show _ ≤ (3 : Nat); omega)⟩) ?_
    refine va_put (D := (dC, dI)) (ci := 6) (v := .int (nI (nxF M (k9 + 1)))) (ty := .int) (C := RX10) (T := TX10) (N := 2) hx hb hts in_X10 tyX10 tyX10_ok nmX10 hown hK hP hD hS 0 rfl rfl 0 (by decide) (hts _ q938) (fun _ h9 => h9) rfl (by decide +kernel) rfl rfl (Nat.le_of_ble_eq_true rfl) dX10_next_3_57 (fun H locs hP hD hS => ?_)
    have hP : va_P (dC, dI) vwCl [(it, .inr (6, [.int (nI (nxF M (k9 + 1))), .ref ma])), (nw_2, .inr (5, [.int (nI k9), .long (((fun j => M (j + 1)) k9) / gcdL ((fun j => M (j + 1)) k9) (M 0)), .long ((M 0) / gcdL ((fun j => M (j + 1)) k9) (M 0))]))] H := hP
    have hD : va_D A [(it, .inr (6, [.int (nI (nxF M (k9 + 1))), .ref ma])), (nw_2, .inr (5, [.int (nI k9), .long (((fun j => M (j + 1)) k9) / gcdL ((fun j => M (j + 1)) k9) (M 0)), .long ((M 0) / gcdL ((fun j => M (j + 1)) k9) (M 0))]))] := hD
    refine lv_aload_n hx hb dX10_next_3_60 rfl (lv_at hl 0 rfl) ?_
    subst hQe
    refine W.widen (k := 1) (n := 3) (by first | decide | omega) (by first | decide | omega) ?_
    exact W.aret (v := .ref nw_2) hx hb hr (Or.inl ⟨_, rfl⟩) (Or.inr ⟨_, rfl⟩) (fun tz ht hW => ⟨⟨(), nw_2, rfl, trivial, B1r_at ht (hP.sub [0, 1] rfl) (hD.sub [0, 1] (by decide) rfl) trivial⟩, hS.F ht⟩) hS.2.2 dX10_next_3_61
  · exact absurd c_4 (by rw [decide_eq_true hk9]; decide)
set_option maxHeartbeats 4000000 in
theorem x10_next {l : Launch} {dC : Nat → ClassId} {dI : Nat → Nat → Nat} {dA : Nat → ClassId} {s0 : State} {b0 : Addr} (Z : Z0 l dC dI dA s0 b0) (A : Nat → Prop) (sz : Nat) (hA : ∀ q : Nat, sz ≤ q → A q) (it : Nat) (ma mr : Nat) (M : MV) (k9 : Nat) (hk9 : k9 < 32) (sM : MSm M) : Met l yX10_next_2 (ws_ yX10_next_2 cX10_next_2 1 (some (.object "java/lang/Object"))) ({ frames := 6, cells := 1, slots := 3, locals := 360 } : Room) (gP [.ref it] s0 A (fun H => H.size = sz ∧ va_P (dC, dI) vwCl [(it, .inr (6, [.int (nI k9), .ref ma]))] H ∧ va_D A [(it, .inr (6, [.int (nI k9), .ref ma]))] ∧ RO A (dC, dI) [(ma, .inr (0, [.ref mr, .long (M 0)])), (mr, .inl (dA 1, 32, .inr (.inl (fun j => M (j + 1)))))] H)) (va_Qr (S := Unit) (fun _ => True) (B1r (dC, dI) A (fun _ q => [(it, .inr (6, [.int (nI (nxF M (k9 + 1))), .ref ma])), (q, .inr (5, [.int (nI k9), .long (M (k9 + 1) / gcdL (M (k9 + 1)) (M 0)), .long (M 0 / gcdL (M (k9 + 1)) (M 0))]))]) (fun _ _ _ => True)) A) 1 3 A := by
  refine Met.ofW (cc := cX10_next_2) (maxL := 1) (ret := (some (.object "java/lang/Object"))) (by decide) rfl ?_
  intro p e s m args below meth c s₁ B hml hv
  obtain ⟨hav, hG, hsz, hP, hD, hR0⟩ := hv
  have hx := B.exec
  have hb := B.bytes
  have hr := B.returns
  have hts := atoms_spec (ws := (ws_ yX10_next_2 cX10_next_2 1 (some (.object "java/lang/Object")))) B.pre
  have hts : ∀ w ∈ lw_all, w.before _ s = true := fun w h => hts w (List.mem_cons_of_mem _ h)
  have hown : s.vm.findClass RX10 = some m.cls := findClass_of_methodNamed B.named
  have hlocks := B.notSynchronized
  have hK := hG.K Z
  subst hsz
  have hS : va_S A s.heap s.heap [] := va_S.rf
  have hl := lv_entry ([.ref it]) (n := 1) (Nat.le_of_ble_eq_true rfl)
  rw [show entryFrame m args 1 = entryFrame m ([.ref it] : List Value).toArray 1 from by rw [hav], lg_entry_eq]
  generalize (lg_sl ([.ref it]) ++ List.replicate (1 - (lg_sl ([.ref it])).length) Slot.unset).toArray = ls at hl ⊢
  have hl : lv_has ls 1 [(0, .ref it)] := hl
  generalize hQe : MQ below _ _ s _ _ _ = Q
  change W p l e ({ frames := 6, cells := 1, slots := 3, locals := 360 } : Room) s m args below meth c s.heap [] 0 0 Q (F0 m 0 ls [])
  refine lv_aload_n hx hb dX10_next_2_0 rfl (lv_at hl 0 rfl) ?_
  have hF9 := va_free (wc := [(it, .inr (6, [.int (nI k9), .ref ma]))]) hD hS (fun q h => hA q h) [0] rfl
  refine c_r (wr := []) (va_runV (As := []) (rest := []) ⟨hx, hb, hml, hown, hts⟩ (x10_nextT Z (va_A [(it, .inr (6, [.int (nI k9), .ref ma]))] s.heap.size) s.heap.size (fun q h => Or.inr h) it ma mr M k9 (by omega) sM) (cwV 0 hts (lw_V q970 q971 q972 q120 q973) rfl rfl rfl (by decide +kernel) ⟨Nat.le_of_ble_eq_true rfl, Nat.le_of_ble_eq_true rfl⟩) (gP_V (va_recv hK hP (ci := 6) (q0 := 0) rfl rfl) hG hS (fun q _ h => hF9 q h) ⟨rfl, (hP.sub (ws' := [(it, .inr (6, [.int (nI k9), .ref ma]))]) [0] rfl), (hD.sub (ws' := [(it, .inr (6, [.int (nI k9), .ref ma]))]) [0] (by decide) rfl).self, (hR0.to hS (fun q _ h => hF9 q h))⟩) rfl rfl hl.1 rfl (lv_room (Nat.le_of_ble_eq_true rfl)) dX10_next_2_1 ⟨by first | decide | omega | (show _ ≤ (1 : Nat); omega), by first | decide | omega | (show _ ≤ (3 : Nat); omega)⟩) hP hD hS hA [0] [] rfl rfl (by decide) (by decide) (fun u9 ra9 H locs hq hX hz hk hP hD hS => ?_)
  obtain ⟨ra_1, rfl⟩ : ∃ z, z = ra9 := ⟨_, rfl⟩
  have hP : va_P (dC, dI) vwCl [(it, .inr (6, [.int (nI (nxF M (k9 + 1))), .ref ma])), (ra_1, .inr (5, [.int (nI k9), .long (M (k9 + 1) / gcdL (M (k9 + 1)) (M 0)), .long (M 0 / gcdL (M (k9 + 1)) (M 0))]))] H := hP
  have hD : va_D A [(it, .inr (6, [.int (nI (nxF M (k9 + 1))), .ref ma])), (ra_1, .inr (5, [.int (nI k9), .long (M (k9 + 1) / gcdL (M (k9 + 1)) (M 0)), .long (M 0 / gcdL (M (k9 + 1)) (M 0))]))] := hD
  subst hQe
  refine W.widen (k := 1) (n := 3) (by first | decide | omega) (by first | decide | omega) ?_
  exact W.aret (v := .ref ra_1) hx hb hr (Or.inl ⟨_, rfl⟩) (Or.inr ⟨_, rfl⟩) (fun tz ht hW => ⟨⟨(), ra_1, rfl, trivial, B1r_at ht (hP.sub [0, 1] rfl) (hD.sub [0, 1] (by decide) rfl) trivial⟩, hS.F ht⟩) hS.2.2 dX10_next_2_4
