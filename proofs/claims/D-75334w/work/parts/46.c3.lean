theorem gr_and62 : ∀ {g : Nat}, g < 64 → nI g &&& (-2) = nI (g &&& 62) := by
  have h : ∀ g, g < 64 → nI g &&& (-2) = nI (g &&& 62) := by decide +kernel
  exact fun {g} hg => h g hg
theorem gr_and61 : ∀ {g : Nat}, g < 64 → nI g &&& (-3) = nI (g &&& 61) := by
  have h : ∀ g, g < 64 → nI g &&& (-3) = nI (g &&& 61) := by decide +kernel
  exact fun {g} hg => h g hg
/-- a table laid place after place -/
def tabS (F : Nat → Int64) (k : Nat) : Nat → Int64 := fun j => if j < k then F j else 0
theorem tabS_0 (F : Nat → Int64) : tabS F 0 = fun _ => 0 := by funext j; unfold tabS; rw [if_neg (by omega)]
theorem tabS_s (F : Nat → Int64) (k : Nat) : vp_updL (tabS F k) k (F k) = tabS F (k + 1) := by
  funext j
  by_cases e : j = k
  · subst e; rw [pk_uLs]; unfold tabS; rw [if_pos (by omega)]
  · rw [pk_uLn e]; unfold tabS
    by_cases h : j < k
    · rw [if_pos h, if_pos (by omega)]
    · rw [if_neg h, if_neg (by omega)]
theorem tabS_at {F : Nat → Int64} {k j : Nat} (h : j < k) : tabS F k j = F j := if_pos h
/-- signs by grades, and only those of grades that stay -/
def sgdF (neg st : Nat) (M : MV) : Nat → Int64 := fun j => if st / 2 ^ popc j &&& 1 = 0 then 0 else if neg / 2 ^ popc j &&& 1 = 1 then -M (j + 1) else M (j + 1)
theorem neg_nm {v : Int64} (h : sm8 v) : -v ≠ Int64.minValue := fun e => by
  apply ne_min_of h (by decide)
  exact Int64.neg_inj.mp (e.trans (by decide))
theorem sgdF_nm {neg st : Nat} {M : MV} (hM : MSm M) : ∀ j, j < 32 → sgdF neg st M j ≠ Int64.minValue := fun j hj => by
  unfold sgdF
  split
  · decide
  · split
    · exact neg_nm (hM.c hj)
    · exact ne_min_of (hM.c hj) (by decide)
set_option maxHeartbeats 4000000 in
theorem x6_isScalar {l : Launch} {dC : Nat → ClassId} {dI : Nat → Nat → Nat} {dA : Nat → ClassId} {s0 : State} {b0 : Addr} (Z : Z0 l dC dI dA s0 b0) (gr : Nat) (Yg : SG (dC, dI) dA gr s0) (ma mr : Nat) (M : MV) : Met l yX6_isScalar (ws_ yX6_isScalar cX6_isScalar 1 (some .boolean)) ({ frames := 2, cells := 0, slots := 0, locals := 120 } : Room) (gP [.ref ma] s0 (fun _ => False) (fun H => va_P (dC, dI) vwCl [(ma, .inr (0, [.ref mr, .long (M 0)])), (mr, .inl (dA 1, 32, .inr (.inl (fun j => M (j + 1)))))] H)) (vp_Si (fun r => r = bI (decide (grS M &&& 62 = 0)))) 0 0 (fun _ => False) := by
  refine Met.ofW (cc := cX6_isScalar) (maxL := 1) (ret := (some .boolean)) (by decide) rfl ?_
  intro p e s m args below meth c s₁ B hml hv
  obtain ⟨hav, hG, hP⟩ := hv
  have hx := B.exec
  have hb := B.bytes
  have hr := B.returns
  have hts := atoms_spec (ws := (ws_ yX6_isScalar cX6_isScalar 1 (some .boolean))) B.pre
  have hts : ∀ w ∈ lw_all, w.before _ s = true := fun w h => hts w (List.mem_cons_of_mem _ h)
  have hown : s.vm.findClass RX6 = some m.cls := findClass_of_methodNamed B.named
  have hlocks := B.notSynchronized
  have hK := hG.K Z
  have hS : va_S (fun _ => False) s.heap s.heap [] := va_S.rf
  have hl := lv_entry ([.ref ma]) (n := 1) (Nat.le_of_ble_eq_true rfl)
  rw [show entryFrame m args 1 = entryFrame m ([.ref ma] : List Value).toArray 1 from by rw [hav], lg_entry_eq]
  generalize (lg_sl ([.ref ma]) ++ List.replicate (1 - (lg_sl ([.ref ma])).length) Slot.unset).toArray = ls at hl ⊢
  have hl : lv_has ls 1 [(0, .ref ma)] := hl
  generalize hQe : MQ below _ _ s _ _ _ = Q
  change W p l e ({ frames := 2, cells := 0, slots := 0, locals := 120 } : Room) s m args below meth c s.heap [] 0 0 Q (F0 m 0 ls [])
  refine lv_aload_n hx hb dX6_isScalar_0 rfl (lv_at hl 0 rfl) ?_
  refine s_i (va_runV (As := []) (rest := []) ⟨hx, hb, hml, hown, hts⟩ (x6_grades Z gr Yg ma mr M) (cwV 0 hts (lw_V q771 q772 q773 q102 q774) rfl rfl rfl (by decide +kernel) ⟨Nat.le_of_ble_eq_true rfl, Nat.le_of_ble_eq_true rfl⟩) (gP_V (va_recv hK hP (ci := 0) (q0 := 0) rfl rfl) hG hS (fun q _ h => h.elim) (hP.sub (ws' := [(ma, .inr (0, [.ref mr, .long (M 0)])), (mr, .inl (dA 1, 32, .inr (.inl (fun j => M (j + 1)))))]) [0, 1] rfl)) rfl rfl hl.1 rfl (lv_room (Nat.le_of_ble_eq_true rfl)) dX6_isScalar_1 ⟨by first | decide | omega, by first | decide | omega⟩) ?_
  refine lv_bipush (v := (-2)) hx hb dX6_isScalar_4 (by decide) ?_
  refine lv_iand hx hb dX6_isScalar_6 ?_
  refine e_i (y := nI (grS M &&& 62)) (gr_and62 (grN_lt M 32 (by decide))) ?_
  have hgb : grS M &&& 62 ≤ 62 := Nat.and_le_right
  refine lv_if_ne (tgt := 14) hx hb dX6_isScalar_7 (by decide) (fun c_7 => ?_) (fun c_7 => ?_)
  · have c_7 : ¬ (grS M &&& 62) = 0 := fun h => c_7 ((nI_eq (a := (grS M &&& 62)) (b := 0) (by omega) (by omega)).mpr h)
    refine lv_iconst (v := nI 0) hx hb dX6_isScalar_14 (by decide) ?_
    subst hQe
    exact W.zret (v := nI 0) hx hb hr rfl (fun tz ht hW => ⟨_, rfl, (by rw [decide_eq_false c_7]; rfl), ht⟩) hS.2.2 dX6_isScalar_15
  · have c_7 : (grS M &&& 62) = 0 := (nI_eq (a := (grS M &&& 62)) (b := 0) (by omega) (by omega)).mp c_7
    refine lv_iconst (v := nI 1) hx hb dX6_isScalar_10 (by decide) ?_
    refine lv_goto (tgt := 15) hx hb dX6_isScalar_11 (by decide) ?_
    subst hQe
    exact W.zret (v := nI 1) hx hb hr rfl (fun tz ht hW => ⟨_, rfl, (by rw [decide_eq_true c_7]; rfl), ht⟩) hS.2.2 dX6_isScalar_15
set_option maxHeartbeats 4000000 in
theorem x6_isVector {l : Launch} {dC : Nat → ClassId} {dI : Nat → Nat → Nat} {dA : Nat → ClassId} {s0 : State} {b0 : Addr} (Z : Z0 l dC dI dA s0 b0) (gr : Nat) (Yg : SG (dC, dI) dA gr s0) (ma mr : Nat) (M : MV) : Met l yX6_isVector (ws_ yX6_isVector cX6_isVector 1 (some .boolean)) ({ frames := 2, cells := 0, slots := 0, locals := 120 } : Room) (gP [.ref ma] s0 (fun _ => False) (fun H => va_P (dC, dI) vwCl [(ma, .inr (0, [.ref mr, .long (M 0)])), (mr, .inl (dA 1, 32, .inr (.inl (fun j => M (j + 1)))))] H)) (vp_Si (fun r => r = bI (decide (grS M &&& 61 = 0)))) 0 0 (fun _ => False) := by
  refine Met.ofW (cc := cX6_isVector) (maxL := 1) (ret := (some .boolean)) (by decide) rfl ?_
  intro p e s m args below meth c s₁ B hml hv
  obtain ⟨hav, hG, hP⟩ := hv
  have hx := B.exec
  have hb := B.bytes
  have hr := B.returns
  have hts := atoms_spec (ws := (ws_ yX6_isVector cX6_isVector 1 (some .boolean))) B.pre
  have hts : ∀ w ∈ lw_all, w.before _ s = true := fun w h => hts w (List.mem_cons_of_mem _ h)
  have hown : s.vm.findClass RX6 = some m.cls := findClass_of_methodNamed B.named
  have hlocks := B.notSynchronized
  have hK := hG.K Z
  have hS : va_S (fun _ => False) s.heap s.heap [] := va_S.rf
  have hl := lv_entry ([.ref ma]) (n := 1) (Nat.le_of_ble_eq_true rfl)
  rw [show entryFrame m args 1 = entryFrame m ([.ref ma] : List Value).toArray 1 from by rw [hav], lg_entry_eq]
  generalize (lg_sl ([.ref ma]) ++ List.replicate (1 - (lg_sl ([.ref ma])).length) Slot.unset).toArray = ls at hl ⊢
  have hl : lv_has ls 1 [(0, .ref ma)] := hl
  generalize hQe : MQ below _ _ s _ _ _ = Q
  change W p l e ({ frames := 2, cells := 0, slots := 0, locals := 120 } : Room) s m args below meth c s.heap [] 0 0 Q (F0 m 0 ls [])
  refine lv_aload_n hx hb dX6_isVector_0 rfl (lv_at hl 0 rfl) ?_
  refine s_i (va_runV (As := []) (rest := []) ⟨hx, hb, hml, hown, hts⟩ (x6_grades Z gr Yg ma mr M) (cwV 0 hts (lw_V q771 q772 q773 q102 q774) rfl rfl rfl (by decide +kernel) ⟨Nat.le_of_ble_eq_true rfl, Nat.le_of_ble_eq_true rfl⟩) (gP_V (va_recv hK hP (ci := 0) (q0 := 0) rfl rfl) hG hS (fun q _ h => h.elim) (hP.sub (ws' := [(ma, .inr (0, [.ref mr, .long (M 0)])), (mr, .inl (dA 1, 32, .inr (.inl (fun j => M (j + 1)))))]) [0, 1] rfl)) rfl rfl hl.1 rfl (lv_room (Nat.le_of_ble_eq_true rfl)) dX6_isVector_1 ⟨by first | decide | omega, by first | decide | omega⟩) ?_
  refine lv_bipush (v := (-3)) hx hb dX6_isVector_4 (by decide) ?_
  refine lv_iand hx hb dX6_isVector_6 ?_
  refine e_i (y := nI (grS M &&& 61)) (gr_and61 (grN_lt M 32 (by decide))) ?_
  have hgb : grS M &&& 61 ≤ 61 := Nat.and_le_right
  refine lv_if_ne (tgt := 14) hx hb dX6_isVector_7 (by decide) (fun c_7 => ?_) (fun c_7 => ?_)
  · have c_7 : ¬ (grS M &&& 61) = 0 := fun h => c_7 ((nI_eq (a := (grS M &&& 61)) (b := 0) (by omega) (by omega)).mpr h)
    refine lv_iconst (v := nI 0) hx hb dX6_isVector_14 (by decide) ?_
    subst hQe
    exact W.zret (v := nI 0) hx hb hr rfl (fun tz ht hW => ⟨_, rfl, (by rw [decide_eq_false c_7]; rfl), ht⟩) hS.2.2 dX6_isVector_15
  · have c_7 : (grS M &&& 61) = 0 := (nI_eq (a := (grS M &&& 61)) (b := 0) (by omega) (by omega)).mp c_7
    refine lv_iconst (v := nI 1) hx hb dX6_isVector_10 (by decide) ?_
    refine lv_goto (tgt := 15) hx hb dX6_isVector_11 (by decide) ?_
    subst hQe
    exact W.zret (v := nI 1) hx hb hr rfl (fun tz ht hW => ⟨_, rfl, (by rw [decide_eq_true c_7]; rfl), ht⟩) hS.2.2 dX6_isVector_15
set_option maxHeartbeats 4000000 in
theorem x6_isOtherScalar {l : Launch} {dC : Nat → ClassId} {dI : Nat → Nat → Nat} {dA : Nat → ClassId} {s0 : State} {b0 : Addr} (Z : Z0 l dC dI dA s0 b0) (gr : Nat) (Yg : SG (dC, dI) dA gr s0) (ma mr : Nat) (M : MV) : Met l yX6_isOtherScalar (ws_ yX6_isOtherScalar cX6_isOtherScalar 1 (some .boolean)) ({ frames := 2, cells := 0, slots := 0, locals := 120 } : Room) (gP [.ref ma] s0 (fun _ => False) (fun H => va_P (dC, dI) vwCl [(ma, .inr (0, [.ref mr, .long (M 0)])), (mr, .inl (dA 1, 32, .inr (.inl (fun j => M (j + 1)))))] H)) (vp_Si (fun r => r = bI (decide (grS M = 1)))) 0 0 (fun _ => False) := by
  refine Met.ofW (cc := cX6_isOtherScalar) (maxL := 1) (ret := (some .boolean)) (by decide) rfl ?_
  intro p e s m args below meth c s₁ B hml hv
  obtain ⟨hav, hG, hP⟩ := hv
  have hx := B.exec
  have hb := B.bytes
  have hr := B.returns
  have hts := atoms_spec (ws := (ws_ yX6_isOtherScalar cX6_isOtherScalar 1 (some .boolean))) B.pre
  have hts : ∀ w ∈ lw_all, w.before _ s = true := fun w h => hts w (List.mem_cons_of_mem _ h)
  have hown : s.vm.findClass RX6 = some m.cls := findClass_of_methodNamed B.named
  have hlocks := B.notSynchronized
  have hK := hG.K Z
  have hS : va_S (fun _ => False) s.heap s.heap [] := va_S.rf
  have hl := lv_entry ([.ref ma]) (n := 1) (Nat.le_of_ble_eq_true rfl)
  rw [show entryFrame m args 1 = entryFrame m ([.ref ma] : List Value).toArray 1 from by rw [hav], lg_entry_eq]
  generalize (lg_sl ([.ref ma]) ++ List.replicate (1 - (lg_sl ([.ref ma])).length) Slot.unset).toArray = ls at hl ⊢
  have hl : lv_has ls 1 [(0, .ref ma)] := hl
  generalize hQe : MQ below _ _ s _ _ _ = Q
  change W p l e ({ frames := 2, cells := 0, slots := 0, locals := 120 } : Room) s m args below meth c s.heap [] 0 0 Q (F0 m 0 ls [])
  refine lv_aload_n hx hb dX6_isOtherScalar_0 rfl (lv_at hl 0 rfl) ?_
  refine s_i (va_runV (As := []) (rest := []) ⟨hx, hb, hml, hown, hts⟩ (x6_grades Z gr Yg ma mr M) (cwV 0 hts (lw_V q771 q772 q773 q102 q774) rfl rfl rfl (by decide +kernel) ⟨Nat.le_of_ble_eq_true rfl, Nat.le_of_ble_eq_true rfl⟩) (gP_V (va_recv hK hP (ci := 0) (q0 := 0) rfl rfl) hG hS (fun q _ h => h.elim) (hP.sub (ws' := [(ma, .inr (0, [.ref mr, .long (M 0)])), (mr, .inl (dA 1, 32, .inr (.inl (fun j => M (j + 1)))))]) [0, 1] rfl)) rfl rfl hl.1 rfl (lv_room (Nat.le_of_ble_eq_true rfl)) dX6_isOtherScalar_1 ⟨by first | decide | omega, by first | decide | omega⟩) ?_
  have hg9 := grN_lt M 32 (by decide)
  have hg8 : grS M < 64 := hg9
  refine lv_iconst (v := nI 1) hx hb dX6_isOtherScalar_4 (by decide) ?_
  refine lv_icmp_ne (tgt := 12) hx hb dX6_isOtherScalar_5 (by decide) (fun c_5 => ?_) (fun c_5 => ?_)
  · have c_5 : ¬ (grS M) = 1 := fun h => c_5 ((nI_eq (a := (grS M)) (b := 1) (by omega) (by omega)).mpr h)
    refine lv_iconst (v := nI 0) hx hb dX6_isOtherScalar_12 (by decide) ?_
    subst hQe
    exact W.zret (v := nI 0) hx hb hr rfl (fun tz ht hW => ⟨_, rfl, (by rw [decide_eq_false c_5]; rfl), ht⟩) hS.2.2 dX6_isOtherScalar_13
  · have c_5 : (grS M) = 1 := (nI_eq (a := (grS M)) (b := 1) (by omega) (by omega)).mp c_5
    refine lv_iconst (v := nI 1) hx hb dX6_isOtherScalar_8 (by decide) ?_
    refine lv_goto (tgt := 13) hx hb dX6_isOtherScalar_9 (by decide) ?_
    subst hQe
    exact W.zret (v := nI 1) hx hb hr rfl (fun tz ht hW => ⟨_, rfl, (by rw [decide_eq_true c_5]; rfl), ht⟩) hS.2.2 dX6_isOtherScalar_13
set_option maxHeartbeats 4000000 in
theorem x6_signed {l : Launch} {dC : Nat → ClassId} {dI : Nat → Nat → Nat} {dA : Nat → ClassId} {s0 : State} {b0 : Addr} (Z : Z0 l dC dI dA s0 b0) (A : Nat → Prop) (sz : Nat) (hA : ∀ q : Nat, sz ≤ q → A q) (gr : Nat) (Yg : SG (dC, dI) dA gr s0) (ma mr : Nat) (M : MV) (neg st : Nat) (sM : MSm M) (hneg : neg < 64) (hst6 : st < 64) : Met l yX6_signed (ws_ yX6_signed cX6_signed 5 (some (.object "BladeAlgebra$Multi"))) ({ frames := 4, cells := 2, slots := 34, locals := 240 } : Room) (gP [.ref ma, .int (nI neg), .int (nI st)] s0 A (fun H => H.size = sz ∧ RO A (dC, dI) [(ma, .inr (0, [.ref mr, .long (M 0)])), (mr, .inl (dA 1, 32, .inr (.inl (fun j => M (j + 1)))))] H)) (va_Qr (S := Nat) (fun _ => True) (B1r (dC, dI) A (fun u q => MA dA q u (redS (M 0) (sgdF neg st M))) (fun _ _ _ => True)) A) 2 34 A := by
  refine Met.ofW (cc := cX6_signed) (maxL := 5) (ret := (some (.object "BladeAlgebra$Multi"))) (by decide) rfl ?_
  intro p e s m args below meth c s₁ B hml hv
  obtain ⟨hav, hG, hsz, hR0⟩ := hv
  have hx := B.exec
  have hb := B.bytes
  have hr := B.returns
  have hts := atoms_spec (ws := (ws_ yX6_signed cX6_signed 5 (some (.object "BladeAlgebra$Multi")))) B.pre
  have hts : ∀ w ∈ lw_all, w.before _ s = true := fun w h => hts w (List.mem_cons_of_mem _ h)
  have hown : s.vm.findClass RX6 = some m.cls := findClass_of_methodNamed B.named
  have hlocks := B.notSynchronized
  have hK := hG.K Z
  subst hsz
  have hS : va_S A s.heap s.heap [] := va_S.rf
  have hP : va_P (dC, dI) vwCl [] s.heap := fun k q h => by simp at h
  have hD : va_D A [] := ⟨fun i j p q h => by simp at h, fun k q h => by simp at h⟩
  have hl := lv_entry ([.ref ma, .int (nI neg), .int (nI st)]) (n := 5) (Nat.le_of_ble_eq_true rfl)
  rw [show entryFrame m args 5 = entryFrame m ([.ref ma, .int (nI neg), .int (nI st)] : List Value).toArray 5 from by rw [hav], lg_entry_eq]
  generalize (lg_sl ([.ref ma, .int (nI neg), .int (nI st)]) ++ List.replicate (5 - (lg_sl ([.ref ma, .int (nI neg), .int (nI st)])).length) Slot.unset).toArray = ls at hl ⊢
  have hl : lv_has ls 5 [(0, .ref ma), (1, .int (nI neg)), (2, .int (nI st))] := hl
  generalize hQe : MQ below _ _ s _ _ _ = Q
  change W p l e ({ frames := 4, cells := 2, slots := 34, locals := 240 } : Room) s m args below meth c s.heap [] 0 0 Q (F0 m 0 ls [])
  have hR1 := hG.RO Yg.2
  refine lv_bipush (v := nI 32) hx hb dX6_signed_0 (by decide) ?_
  refine a_newa (D := (dC, dI)) (atype := .long) (N' := 32) (a0 := (32, .inr (.inl (fun _ => 0)))) hx hb (hts _ q542) rfl hK hP hD hS hA 1 rfl (fun _ => ra_long) (fun _ => rfl) (by decide) (by decide) (by decide) (by first | decide | omega) (by first | decide | omega) dX6_signed_2 (fun na_1 H locs hP hD hS => ?_)
  have hP : va_P (dC, dI) vwCl [(na_1, .inl (dA 1, 32, .inr (.inl (fun _ => 0))))] H := hP
  have hD : va_D A [(na_1, .inl (dA 1, 32, .inr (.inl (fun _ => 0))))] := hD
  refine lv_astore_n (lv' := [(3, .ref na_1), (0, .ref ma), (1, .int (nI neg)), (2, .int (nI st))]) hx hb dX6_signed_4 rfl hl (by decide) rfl (fun ls hl => ?_)
  refine lv_iconst (v := nI 0) hx hb dX6_signed_5 (by decide) ?_
  refine lv_istore (lv' := [(4, .int (nI 0)), (3, .ref na_1), (0, .ref ma), (1, .int (nI neg)), (2, .int (nI st))]) hx hb dX6_signed_6 hl (by decide) rfl (fun ls hl => ?_)
  have e9 : (fun _ => 0 : Nat → Int64) = (tabS (sgdF neg st M) 0) := (tabS_0 _).symm
  rw [e9] at hP hD; clear e9
  have loop_2 : ∀ (n9_2 : Nat) (k : Nat) (H : Heap) (locs : List Loc) (ls : Array Slot), 32 - k < n9_2 → (k ≤ 32) → va_P (dC, dI) vwCl [(na_1, .inl (dA 1, 32, .inr (.inl (tabS (sgdF neg st M) k))))] H → va_D A [(na_1, .inl (dA 1, 32, .inr (.inl (tabS (sgdF neg st M) k))))] → va_S A s.heap H locs → lv_has ls 5 [(0, .ref ma), (1, .int (nI neg)), (2, .int (nI st)), (3, .ref na_1), (4, .int (nI k))] → W p l e ({ frames := 4, cells := 2, slots := 34, locals := 240 } : Room) s m args below meth c H locs (0 + 1) (0 + 32) Q (F0 m 8 ls []) := by
    intro n9_2
    induction n9_2 with
    | zero => intro k H locs ls hm_2; exact absurd hm_2 (Nat.not_lt_zero _)
    | succ n9_2 ih_2 =>
      intro k H locs ls hm_2 hk9 hP hD hS hl
      refine lv_iload hx hb dX6_signed_8 (lv_at hl 4 rfl) ?_
      refine lv_bipush (v := nI 32) hx hb dX6_signed_10 (by decide) ?_
      refine lv_icmp_ge (tgt := 74) hx hb dX6_signed_12 (by decide) (fun c_12 => ?_) (fun c_12 => ?_)
      · have c_12 : 32 ≤ k := (nI_leI (a := 32) (b := k) (by omega) (by omega)).mp c_12
        obtain rfl : k = 32 := by omega
        have hP := P_L hP 0 (sgdF neg st M) rfl (fun j hj => tabS_at hj)
        have hD := va_D.set (e := .inl (dA 1, 32, .inr (.inl (sgdF neg st M)))) hD (p := 0) rfl
        have hP : va_P (dC, dI) vwCl [(na_1, .inl (dA 1, 32, .inr (.inl (sgdF neg st M))))] H := hP
        have hD : va_D A [(na_1, .inl (dA 1, 32, .inr (.inl (sgdF neg st M))))] := hD
        refine lv_aload_n hx hb dX6_signed_74 rfl (lv_at hl 0 rfl) ?_
        refine lv_aload_n hx hb dX6_signed_75 rfl (lv_at hl 3 rfl) ?_
        have hF9 := va_free (wc := [(na_1, .inl (dA 1, 32, .inr (.inl (sgdF neg st M))))]) hD hS (fun q h => hA q h) [0] rfl
        refine c_r (wr := []) (va_runV (As := [.ref na_1]) (rest := []) ⟨hx, hb, hml, hown, hts⟩ (x6_reduced Z (va_A [(na_1, .inl (dA 1, 32, .inr (.inl (sgdF neg st M))))] H.size) H.size (fun q h => Or.inr h) ma mr na_1 M (sgdF neg st M) sM (sgdF_nm sM)) (cwV 1 hts (lw_V q761 q717 qs5 q102 q718) rfl rfl rfl (by decide +kernel) ⟨Nat.le_of_ble_eq_true rfl, Nat.le_of_ble_eq_true rfl⟩) (gP_V (va_recv hK (hR0.up hS) (ci := 0) (q0 := 0) rfl rfl) hG hS (fun q _ h => hF9 q h) ⟨rfl, (hP.sub (ws' := [(na_1, .inl (dA 1, 32, .inr (.inl (sgdF neg st M))))]) [0] rfl), (hD.sub (ws' := [(na_1, .inl (dA 1, 32, .inr (.inl (sgdF neg st M))))]) [0] (by decide) rfl).self, (hR0.to hS (fun q _ h => hF9 q h))⟩) rfl rfl hl.1 rfl (lv_room (Nat.le_of_ble_eq_true rfl)) dX6_signed_76 ⟨by first | decide | omega, by first | decide | omega⟩) hP hD hS hA [0] [] rfl rfl (by decide) (by decide) (fun u9 ra9 H locs hq hX hz hk hP hD hS => ?_)
        obtain ⟨ra_3, rfl⟩ : ∃ z, z = ra9 := ⟨_, rfl⟩
        have hP : va_P (dC, dI) vwCl [(ra_3, .inr (0, [.ref na_1, .long (redS (M 0) (sgdF neg st M) 0)])), (na_1, .inl (dA 1, 32, .inr (.inl (fun j => redS (M 0) (sgdF neg st M) (j + 1)))))] H := hP
        have hD : va_D A [(ra_3, .inr (0, [.ref na_1, .long (redS (M 0) (sgdF neg st M) 0)])), (na_1, .inl (dA 1, 32, .inr (.inl (fun j => redS (M 0) (sgdF neg st M) (j + 1)))))] := hD
        subst hQe
        refine W.widen (k := 2) (n := 34) (by first | decide | omega) (by first | decide | omega) ?_
        exact W.aret (v := .ref ra_3) hx hb hr (Or.inl ⟨_, rfl⟩) (Or.inr ⟨_, rfl⟩) (fun tz ht hW => ⟨⟨na_1, ra_3, rfl, trivial, B1r_at ht (hP.sub [0, 1] rfl) (hD.sub [0, 1] (by decide) rfl) trivial⟩, hS.F ht⟩) hS.2.2 dX6_signed_79
      · have c_12 : ¬ 32 ≤ k := fun h => c_12 ((nI_leI (a := 32) (b := k) (by omega) (by omega)).mpr h)
        refine lv_aload_n hx hb dX6_signed_15 rfl (lv_at hl 3 rfl) ?_
        refine lv_iload hx hb dX6_signed_16 (lv_at hl 4 rfl) ?_
        refine lv_iload_n hx hb dX6_signed_18 rfl (lv_at hl 2 rfl) ?_
        refine va_getsN (v := .ref gr) hx hb (hG.Z Z Yg.1) hS hown (((va_Nw.warmF hG.1 (va_Nw.of rfl (Z.2.1 _ q760)))).use rfl) (fun _ h9 => h9) dX6_signed_19 ?_
        refine lv_iload hx hb dX6_signed_22 (lv_at hl 4 rfl) ?_
        refine a_iald hx hb hK (hR1.up hS) 0 0 rfl rfl (by omega) (by omega) dX6_signed_24 ?_
        refine e_i (y := nI (popc k)) (rfl) ?_
        have hp25 := popc_le5 k (by omega)
        refine lv_ishr hx hb dX6_signed_25 ?_
        refine e_i (y := nI (st / 2 ^ (popc k))) (n_shr (by omega) (by omega)) ?_
        refine lv_iconst (v := nI 1) hx hb dX6_signed_26 (by decide) ?_
        refine lv_iand hx hb dX6_signed_27 ?_
        refine e_i (y := nI ((st / 2 ^ (popc k)) &&& 1)) (n_and _ _) ?_
        refine lv_if_ne (tgt := 35) hx hb dX6_signed_28 (by decide) (fun c_28 => ?_) (fun c_28 => ?_)
        · have c_28 : ¬ ((st / 2 ^ (popc k)) &&& 1) = 0 := fun h => c_28 ((nI_eq (a := ((st / 2 ^ (popc k)) &&& 1)) (b := 0) (Nat.lt_of_le_of_lt Nat.and_le_right (by decide)) (by omega)).mpr h)
          have hst := c_28
          refine lv_iload_n hx hb dX6_signed_35 rfl (lv_at hl 1 rfl) ?_
          refine va_getsN (v := .ref gr) hx hb (hG.Z Z Yg.1) hS hown (((va_Nw.warmF hG.1 (va_Nw.of rfl (Z.2.1 _ q760)))).use rfl) (fun _ h9 => h9) dX6_signed_36 ?_
          refine lv_iload hx hb dX6_signed_39 (lv_at hl 4 rfl) ?_
          refine a_iald hx hb hK (hR1.up hS) 0 0 rfl rfl (by omega) (by omega) dX6_signed_41 ?_
          refine e_i (y := nI (popc k)) (rfl) ?_
          have hp42 := popc_le5 k (by omega)
          refine lv_ishr hx hb dX6_signed_42 ?_
          refine e_i (y := nI (neg / 2 ^ (popc k))) (n_shr (by omega) (by omega)) ?_
          refine lv_iconst (v := nI 1) hx hb dX6_signed_43 (by decide) ?_
          refine lv_iand hx hb dX6_signed_44 ?_
          refine e_i (y := nI ((neg / 2 ^ (popc k)) &&& 1)) (n_and _ _) ?_
          refine lv_iconst (v := nI 1) hx hb dX6_signed_45 (by decide) ?_
          refine lv_icmp_ne (tgt := 60) hx hb dX6_signed_46 (by decide) (fun c_46 => ?_) (fun c_46 => ?_)
          · have c_46 : ¬ ((neg / 2 ^ (popc k)) &&& 1) = 1 := fun h => c_46 ((nI_eq (a := ((neg / 2 ^ (popc k)) &&& 1)) (b := 1) (Nat.lt_of_le_of_lt Nat.and_le_right (by decide)) (by omega)).mpr h)
            refine lv_aload_n hx hb dX6_signed_60 rfl (lv_at hl 0 rfl) ?_
            refine va_get (D := (dC, dI)) (ci := 0) (v := .ref mr) (C := RX6) (T := TX6) (N := 2) hx hb hts in_X6 hown hK (hR0.up hS) 0 rfl rfl 0 (by decide) (hts _ q549) (fun _ h9 => h9) rfl dX6_signed_61 ?_
            refine lv_iload hx hb dX6_signed_64 (lv_at hl 4 rfl) ?_
            refine a_lald hx hb hK (hR0.up hS) 1 1 rfl rfl (by omega) (by omega) dX6_signed_66 ?_
            refine e_l (y := sgdF neg st M k) (Eq.symm (by unfold sgdF; rw [if_neg hst, if_neg c_46])) ?_
            refine a_last hx hb hK hP hD hS 0 1 rfl rfl (by omega) (by omega) dX6_signed_67 (fun H locs hP hD hS => ?_)
            have hP : va_P (dC, dI) vwCl [(na_1, .inl (dA 1, 32, .inr (.inl (vp_updL (tabS (sgdF neg st M) k) k (sgdF neg st M k)))))] H := hP
            have hD : va_D A [(na_1, .inl (dA 1, 32, .inr (.inl (vp_updL (tabS (sgdF neg st M) k) k (sgdF neg st M k)))))] := hD
            have e9 : (vp_updL (tabS (sgdF neg st M) k) k (sgdF neg st M k) : Nat → Int64) = (tabS (sgdF neg st M) (k + 1)) := tabS_s _ _
            rw [e9] at hP hD; clear e9
            refine lv_iinc (v := nI (k + 1)) (lv' := [(4, .int (nI (k + 1))), (0, .ref ma), (1, .int (nI neg)), (2, .int (nI st)), (3, .ref na_1)]) hx hb dX6_signed_68 hl (k := 4) rfl (by exact nI_add _ 1) (by decide) rfl (fun ls hl => ?_)
            refine lv_goto (tgt := 8) hx hb dX6_signed_71 (by decide) ?_
            exact ih_2 (k + 1) H locs ls (by omega) (by omega) (hP.sub [0] rfl) (hD.sub [0] (by decide) rfl) hS (lv_sub hl [1, 2, 3, 4, 0] rfl)
          · have c_46 : ((neg / 2 ^ (popc k)) &&& 1) = 1 := (nI_eq (a := ((neg / 2 ^ (popc k)) &&& 1)) (b := 1) (Nat.lt_of_le_of_lt Nat.and_le_right (by decide)) (by omega)).mp c_46
            refine lv_aload_n hx hb dX6_signed_49 rfl (lv_at hl 0 rfl) ?_
            refine va_get (D := (dC, dI)) (ci := 0) (v := .ref mr) (C := RX6) (T := TX6) (N := 2) hx hb hts in_X6 hown hK (hR0.up hS) 0 rfl rfl 0 (by decide) (hts _ q549) (fun _ h9 => h9) rfl dX6_signed_50 ?_
            refine lv_iload hx hb dX6_signed_53 (lv_at hl 4 rfl) ?_
            refine a_lald hx hb hK (hR0.up hS) 1 1 rfl rfl (by omega) (by omega) dX6_signed_55 ?_
            refine lv_lneg hx hb dX6_signed_56 ?_
            refine lv_goto (tgt := 67) hx hb dX6_signed_57 (by decide) ?_
            refine e_l (y := sgdF neg st M k) (Eq.symm (by unfold sgdF; rw [if_neg hst, if_pos c_46])) ?_
            refine a_last hx hb hK hP hD hS 0 1 rfl rfl (by omega) (by omega) dX6_signed_67 (fun H locs hP hD hS => ?_)
            have hP : va_P (dC, dI) vwCl [(na_1, .inl (dA 1, 32, .inr (.inl (vp_updL (tabS (sgdF neg st M) k) k (sgdF neg st M k)))))] H := hP
            have hD : va_D A [(na_1, .inl (dA 1, 32, .inr (.inl (vp_updL (tabS (sgdF neg st M) k) k (sgdF neg st M k)))))] := hD
            have e9 : (vp_updL (tabS (sgdF neg st M) k) k (sgdF neg st M k) : Nat → Int64) = (tabS (sgdF neg st M) (k + 1)) := tabS_s _ _
            rw [e9] at hP hD; clear e9
            refine lv_iinc (v := nI (k + 1)) (lv' := [(4, .int (nI (k + 1))), (0, .ref ma), (1, .int (nI neg)), (2, .int (nI st)), (3, .ref na_1)]) hx hb dX6_signed_68 hl (k := 4) rfl (by exact nI_add _ 1) (by decide) rfl (fun ls hl => ?_)
            refine lv_goto (tgt := 8) hx hb dX6_signed_71 (by decide) ?_
            exact ih_2 (k + 1) H locs ls (by omega) (by omega) (hP.sub [0] rfl) (hD.sub [0] (by decide) rfl) hS (lv_sub hl [1, 2, 3, 4, 0] rfl)
        · have c_28 : ((st / 2 ^ (popc k)) &&& 1) = 0 := (nI_eq (a := ((st / 2 ^ (popc k)) &&& 1)) (b := 0) (Nat.lt_of_le_of_lt Nat.and_le_right (by decide)) (by omega)).mp c_28
          have hst := c_28
          refine lv_lconst (v := 0) hx hb dX6_signed_31 rfl ?_
          refine lv_goto (tgt := 67) hx hb dX6_signed_32 (by decide) ?_
          refine e_l (y := sgdF neg st M k) (Eq.symm (by unfold sgdF; rw [if_pos hst])) ?_
          refine a_last hx hb hK hP hD hS 0 1 rfl rfl (by omega) (by omega) dX6_signed_67 (fun H locs hP hD hS => ?_)
          have hP : va_P (dC, dI) vwCl [(na_1, .inl (dA 1, 32, .inr (.inl (vp_updL (tabS (sgdF neg st M) k) k (sgdF neg st M k)))))] H := hP
          have hD : va_D A [(na_1, .inl (dA 1, 32, .inr (.inl (vp_updL (tabS (sgdF neg st M) k) k (sgdF neg st M k)))))] := hD
          have e9 : (vp_updL (tabS (sgdF neg st M) k) k (sgdF neg st M k) : Nat → Int64) = (tabS (sgdF neg st M) (k + 1)) := tabS_s _ _
          rw [e9] at hP hD; clear e9
          refine lv_iinc (v := nI (k + 1)) (lv' := [(4, .int (nI (k + 1))), (0, .ref ma), (1, .int (nI neg)), (2, .int (nI st)), (3, .ref na_1)]) hx hb dX6_signed_68 hl (k := 4) rfl (by exact nI_add _ 1) (by decide) rfl (fun ls hl => ?_)
          refine lv_goto (tgt := 8) hx hb dX6_signed_71 (by decide) ?_
          exact ih_2 (k + 1) H locs ls (by omega) (by omega) (hP.sub [0] rfl) (hD.sub [0] (by decide) rfl) hS (lv_sub hl [1, 2, 3, 4, 0] rfl)
  exact loop_2 _ 0 H locs ls (Nat.lt_succ_self _) (by omega) hP hD hS (lv_sub hl [2, 3, 4, 1, 0] rfl)
