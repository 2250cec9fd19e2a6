set_option maxHeartbeats 4000000 in
theorem x12_init {l : Launch} {dC : Nat → ClassId} {dI : Nat → Nat → Nat} {dA : Nat → ClassId} {s0 : State} {b0 : Addr} (Z : Z0 l dC dI dA s0 b0) (A : Nat → Prop) (sz : Nat) (hA : ∀ q : Nat, sz ≤ q → A q) (nd : Nat) : Met l yX12_init (ws_ yX12_init cX12_init 1 none) ({ frames := 2, cells := 0, slots := 0, locals := 120 } : Room) (gP [.ref nd] s0 A (fun H => H.size = sz)) (va_Qv (S := Unit) (fun _ => True) (B1 (dC, dI) A (fun _ => []) (fun _ _ => True)) A) 0 0 A := by
  refine Met.ofW (cc := cX12_init) (maxL := 1) (ret := none) (by decide) rfl ?_
  intro p e s m args below meth c s₁ B hml hv
  obtain ⟨hav, hG, hsz⟩ := hv
  have hx := B.exec
  have hb := B.bytes
  have hr := B.returns
  have hts := atoms_spec (ws := (ws_ yX12_init cX12_init 1 none)) B.pre
  have hts : ∀ w ∈ lw_all, w.before _ s = true := fun w h => hts w (List.mem_cons_of_mem _ h)
  have hown : s.vm.findClass RX12 = some m.cls := findClass_of_methodNamed B.named
  have hlocks := B.notSynchronized
  have hK := hG.K Z
  have hin : meth.name = "<init>" := (name_of_methodNamed B.named B.method).1
  subst hsz
  have hS : va_S A s.heap s.heap [] := va_S.rf
  have hP : va_P (dC, dI) vwCl [] s.heap := fun k q h => by simp at h
  have hD : va_D A [] := ⟨fun i j p q h => by simp at h, fun k q h => by simp at h⟩
  have hl := lv_entry ([.ref nd]) (n := 1) (Nat.le_of_ble_eq_true rfl)
  rw [show entryFrame m args 1 = entryFrame m ([.ref nd] : List Value).toArray 1 from by rw [hav], lg_entry_eq]
  generalize (lg_sl ([.ref nd]) ++ List.replicate (1 - (lg_sl ([.ref nd])).length) Slot.unset).toArray = ls at hl ⊢
  have hl : lv_has ls 1 [(0, .ref nd)] := hl
  generalize hQe : MQ below _ _ s _ _ _ = Q
  change W p l e ({ frames := 2, cells := 0, slots := 0, locals := 120 } : Room) s m args below meth c s.heap [] 0 0 Q (F0 m 0 ls [])
  refine lv_aload_n hx hb dX12_init_0 rfl (lv_at hl 0 rfl) ?_
  refine W.objInit hx hb hown (hts _ q1389) (hts _ q151) (hts _ q152) rfl (by rw [hml]; exact hl.1) rfl dX12_init_1 (Nat.le_of_ble_eq_true rfl) (Nat.le_of_ble_eq_true rfl) ?_
  show W p l e ({ frames := 2, cells := 0, slots := 0, locals := 120 } : Room) s m args below meth c s.heap [] 0 0 Q (F0 m 4 ls [])
  subst hQe
  exact W.vret hx hb hr (fun tz ht hW => ⟨⟨(), rfl, trivial, B1_at ht (hP.sub [] rfl) (hD.sub [] (by decide) rfl) trivial⟩, hS.F ht⟩) hS.2.2 dX12_init_4
set_option maxHeartbeats 4000000 in
theorem x15_init {l : Launch} {dC : Nat → ClassId} {dI : Nat → Nat → Nat} {dA : Nat → ClassId} {s0 : State} {b0 : Addr} (Z : Z0 l dC dI dA s0 b0) (A : Nat → Prop) (sz : Nat) (hA : ∀ q : Nat, sz ≤ q → A q) (va mo : Nat) : Met l yX15_init (ws_ yX15_init cX15_init 2 none) ({ frames := 3, cells := 0, slots := 0, locals := 180 } : Room) (gP [.ref va, .ref mo] s0 A (fun H => H.size = sz ∧ va_P (dC, dI) vwCl [(va, .inr (11, [.null]))] H ∧ va_D A [(va, .inr (11, [.null]))])) (va_Qv (S := Unit) (fun _ => True) (B1 (dC, dI) A (fun _ => [(va, .inr (11, [.ref mo]))]) (fun _ _ => True)) A) 0 0 A := by
  refine Met.ofW (cc := cX15_init) (maxL := 2) (ret := none) (by decide) rfl ?_
  intro p e s m args below meth c s₁ B hml hv
  obtain ⟨hav, hG, hsz, hP, hD⟩ := hv
  have hx := B.exec
  have hb := B.bytes
  have hr := B.returns
  have hts := atoms_spec (ws := (ws_ yX15_init cX15_init 2 none)) B.pre
  have hts : ∀ w ∈ lw_all, w.before _ s = true := fun w h => hts w (List.mem_cons_of_mem _ h)
  have hown : s.vm.findClass RX15 = some m.cls := findClass_of_methodNamed B.named
  have hlocks := B.notSynchronized
  have hK := hG.K Z
  have hin : meth.name = "<init>" := (name_of_methodNamed B.named B.method).1
  subst hsz
  have hS : va_S A s.heap s.heap [] := va_S.rf
  have hl := lv_entry ([.ref va, .ref mo]) (n := 2) (Nat.le_of_ble_eq_true rfl)
  rw [show entryFrame m args 2 = entryFrame m ([.ref va, .ref mo] : List Value).toArray 2 from by rw [hav], lg_entry_eq]
  generalize (lg_sl ([.ref va, .ref mo]) ++ List.replicate (2 - (lg_sl ([.ref va, .ref mo])).length) Slot.unset).toArray = ls at hl ⊢
  have hl : lv_has ls 2 [(0, .ref va), (1, .ref mo)] := hl
  generalize hQe : MQ below _ _ s _ _ _ = Q
  change W p l e ({ frames := 3, cells := 0, slots := 0, locals := 180 } : Room) s m args below meth c s.heap [] 0 0 Q (F0 m 0 ls [])
  refine lv_aload_n hx hb dX15_init_0 rfl (lv_at hl 0 rfl) ?_
  have hF9 := va_free (wc := []) hD hS (fun q h => hA q h) [] rfl
  refine c_v (wr := [(va, .inr (11, [.null]))]) (va_runIN (As := []) (rest := []) ⟨hx, hb, hml, hown, hts⟩ (x12_init Z (va_A [] s.heap.size) s.heap.size (fun q h => Or.inr h) va) ⟨va_cnB 0 hts (lw_meth q1388) rfl rfl rfl (va_Nw.warmM hG.1 (va_Nw.of rfl (Z.2.1 _ q1386))) (hts _ q127) (by decide +kernel) ⟨Nat.le_of_ble_eq_true rfl, Nat.le_of_ble_eq_true rfl⟩, rfl, hts _ q1387⟩ (gP_S hG hS (fun q _ h => hF9 q h) rfl) rfl rfl hl.1 rfl (lv_room (Nat.le_of_ble_eq_true rfl)) dX15_init_1 ⟨by first | decide | omega | (show _ ≤ (0 : Nat); omega), by first | decide | omega | (show _ ≤ (0 : Nat); omega)⟩) hP hD hS hA [] [0] rfl rfl (by decide) (by decide) (fun u9 H locs hq hX hz hk hP hD hS => ?_)
  have hP : va_P (dC, dI) vwCl [(va, .inr (11, [.null]))] H := hP
  have hD : va_D A [(va, .inr (11, [.null]))] := hD
  refine lv_aload_n hx hb dX15_init_4 rfl (lv_at hl 0 rfl) ?_
  refine lv_aload_n hx hb dX15_init_5 rfl (lv_at hl 1 rfl) ?_
  refine va_putF (D := (dC, dI)) (ci := 11) (v := .ref mo) (ty := (tyX15 0)) (C := RX15) (T := TX15) (N := 1) hx hb hts in_X15 tyX15 tyX15_ok nmX15 hown hK hP hD hS 0 rfl rfl 0 (by decide) (hts _ q1390) (fun _ h9 => h9) rfl hin rfl (by decide +kernel) rfl rfl (Nat.le_of_ble_eq_true rfl) dX15_init_6 (fun H locs hP hD hS => ?_)
  have hP : va_P (dC, dI) vwCl [(va, .inr (11, [.ref mo]))] H := hP
  have hD : va_D A [(va, .inr (11, [.ref mo]))] := hD
  subst hQe
  exact W.vret hx hb hr (fun tz ht hW => ⟨⟨(), rfl, trivial, B1_at ht (hP.sub [0] rfl) (hD.sub [0] (by decide) rfl) trivial⟩, hS.F ht⟩) hS.2.2 dX15_init_9
set_option maxHeartbeats 4000000 in
theorem x13_init {l : Launch} {dC : Nat → ClassId} {dI : Nat → Nat → Nat} {dA : Nat → ClassId} {s0 : State} {b0 : Addr} (Z : Z0 l dC dI dA s0 b0) (A : Nat → Prop) (sz : Nat) (hA : ∀ q : Nat, sz ≤ q → A q) {σ : Nat → Nat} {dS : va_G} (Y2 : S2 (dC, dI) dS dA σ s0) (ch fi : Nat) : Met l yX13_init (ws_ yX13_init cX13_init 2 none) ({ frames := 5, cells := 6, slots := 15, locals := 300 } : Room) (gP [.ref ch, .ref fi] s0 A (fun H => H.size = sz ∧ va_P (dC, dI) vwCl [(ch, .inr (10, [.null, .null, .null, .null]))] H ∧ va_D A [(ch, .inr (10, [.null, .null, .null, .null]))])) (va_Qv (S := Nat → Nat) (fun _ => True) (B1 (dC, dI) A (fun u => [(ch, .inr (10, [.ref fi, .ref (u 0), .ref (u 2), .ref (u 4)])), ((u 0), .inr (13, [.int (nI 0), .ref (u 1), .int (nI 0)])), ((u 1), .inl (dA 8, 2, .inr (.inr (.inr (.inr (lsE (fun _ => 0) 0)))))), ((u 2), .inr (13, [.int (nI 0), .ref (u 3), .int (nI 0)])), ((u 3), .inl (dA 8, 2, .inr (.inr (.inr (.inr (lsE (fun _ => 0) 0)))))), ((u 4), .inr (13, [.int (nI 0), .ref (u 5), .int (nI 0)])), ((u 5), .inl (dA 8, 2, .inr (.inr (.inr (.inr (lsE (fun _ => 0) 0))))))]) (fun _ _ => True)) A) 6 15 A := by
  refine Met.ofW (cc := cX13_init) (maxL := 2) (ret := none) (by decide) rfl ?_
  intro p e s m args below meth c s₁ B hml hv
  obtain ⟨hav, hG, hsz, hP, hD⟩ := hv
  have hx := B.exec
  have hb := B.bytes
  have hr := B.returns
  have hts := atoms_spec (ws := (ws_ yX13_init cX13_init 2 none)) B.pre
  have hts : ∀ w ∈ lw_all, w.before _ s = true := fun w h => hts w (List.mem_cons_of_mem _ h)
  have hown : s.vm.findClass RX13 = some m.cls := findClass_of_methodNamed B.named
  have hlocks := B.notSynchronized
  have hK := hG.K Z
  have hin : meth.name = "<init>" := (name_of_methodNamed B.named B.method).1
  subst hsz
  have hS : va_S A s.heap s.heap [] := va_S.rf
  have hl := lv_entry ([.ref ch, .ref fi]) (n := 2) (Nat.le_of_ble_eq_true rfl)
  rw [show entryFrame m args 2 = entryFrame m ([.ref ch, .ref fi] : List Value).toArray 2 from by rw [hav], lg_entry_eq]
  generalize (lg_sl ([.ref ch, .ref fi]) ++ List.replicate (2 - (lg_sl ([.ref ch, .ref fi])).length) Slot.unset).toArray = ls at hl ⊢
  have hl : lv_has ls 2 [(0, .ref ch), (1, .ref fi)] := hl
  generalize hQe : MQ below _ _ s _ _ _ = Q
  change W p l e ({ frames := 5, cells := 6, slots := 15, locals := 300 } : Room) s m args below meth c s.heap [] 0 0 Q (F0 m 0 ls [])
  refine lv_aload_n hx hb dX13_init_0 rfl (lv_at hl 0 rfl) ?_
  have hF9 := va_free (wc := []) hD hS (fun q h => hA q h) [] rfl
  refine c_v (wr := [(ch, .inr (10, [.null, .null, .null, .null]))]) (va_runIN (As := []) (rest := []) ⟨hx, hb, hml, hown, hts⟩ (x12_init Z (va_A [] s.heap.size) s.heap.size (fun q h => Or.inr h) ch) ⟨va_cnB 0 hts (lw_meth q1388) rfl rfl rfl (va_Nw.warmM hG.1 (va_Nw.of rfl (Z.2.1 _ q1711))) (hts _ q127) (by decide +kernel) ⟨Nat.le_of_ble_eq_true rfl, Nat.le_of_ble_eq_true rfl⟩, rfl, hts _ q1387⟩ (gP_S hG hS (fun q _ h => hF9 q h) rfl) rfl rfl hl.1 rfl (lv_room (Nat.le_of_ble_eq_true rfl)) dX13_init_1 ⟨by first | decide | omega | (show _ ≤ (6 : Nat); omega), by first | decide | omega | (show _ ≤ (15 : Nat); omega)⟩) hP hD hS hA [] [0] rfl rfl (by decide) (by decide) (fun u9 H locs hq hX hz hk hP hD hS => ?_)
  have hP : va_P (dC, dI) vwCl [(ch, .inr (10, [.null, .null, .null, .null]))] H := hP
  have hD : va_D A [(ch, .inr (10, [.null, .null, .null, .null]))] := hD
  refine lv_aload_n hx hb dX13_init_4 rfl (lv_at hl 0 rfl) ?_
  refine va_new (D := (dC, dI)) (ci := 13) (fs := [.int 0, .null, .int 0]) (C := RJ20) (T := TJ20) (N := 3) hx hb hts in_J20 tyJ20 tyJ20_ok hown (hts _ q1712) (hts _ q1403) (hts _ q134) hK hP hD hS hA rfl (fun j hj => by rcases (show j = 0 ∨ j = 1 ∨ j = 2 by omega) with rfl | rfl | rfl <;> rfl) (by first | decide | omega) (by first | decide | omega) dX13_init_5 (fun nw_1 H hP hD hS => ?_)
  have hP : va_P (dC, dI) vwCl [(ch, .inr (10, [.null, .null, .null, .null])), (nw_1, .inr (13, [.int 0, .null, .int 0]))] H := hP
  have hD : va_D A [(ch, .inr (10, [.null, .null, .null, .null])), (nw_1, .inr (13, [.int 0, .null, .int 0]))] := hD
  refine lv_dup hx hb dX13_init_8 rfl ?_
  refine lv_iconst (v := nI 2) hx hb dX13_init_9 (by decide) ?_
  have hF9 := va_free (wc := [(nw_1, .inr (13, [.int 0, .null, .int 0]))]) hD hS (fun q h => hA q h) [1] rfl
  refine c_v (wr := [(ch, .inr (10, [.null, .null, .null, .null]))]) (va_runI (As := [.int (nI 2)]) (rest := [.ref nw_1, .ref ch]) ⟨hx, hb, hml, hown, hts⟩ (j20_init Z (va_A [(nw_1, .inr (13, [.int 0, .null, .int 0]))] H.size) H.size (fun q h => Or.inr h) Y2 nw_1) (cwI 1 hts (lw_meth q1406) rfl rfl rfl (hts _ q134) (hts _ q1713) (hts _ q1405) rfl (by decide +kernel) ⟨Nat.le_of_ble_eq_true rfl, Nat.le_of_ble_eq_true rfl⟩) (gP_S hG hS (fun q _ h => hF9 q h) ⟨rfl, (hP.sub (ws' := [(nw_1, .inr (13, [.int 0, .null, .int 0]))]) [1] rfl), (hD.sub (ws' := [(nw_1, .inr (13, [.int 0, .null, .int 0]))]) [1] (by decide) rfl).self⟩) rfl rfl hl.1 rfl (lv_room (Nat.le_of_ble_eq_true rfl)) dX13_init_10 ⟨by first | decide | omega | (show _ ≤ (6 : Nat); omega), by first | decide | omega | (show _ ≤ (15 : Nat); omega)⟩) hP hD hS hA [1] [0] rfl rfl (by decide) (by decide) (fun u9 H locs hq hX hz hk hP hD hS => ?_)
  obtain ⟨ed_1, rfl⟩ : ∃ z, z = u9 := ⟨_, rfl⟩
  have hP : va_P (dC, dI) vwCl [(ch, .inr (10, [.null, .null, .null, .null])), (nw_1, .inr (13, [.int (nI 0), .ref ed_1, .int 0])), (ed_1, .inl (dA 8, 2, .inr (.inr (.inr (.inr (fun _ => none))))))] H := hP
  have hD : va_D A [(ch, .inr (10, [.null, .null, .null, .null])), (nw_1, .inr (13, [.int (nI 0), .ref ed_1, .int 0])), (ed_1, .inl (dA 8, 2, .inr (.inr (.inr (.inr (fun _ => none))))))] := hD
  refine va_putF (D := (dC, dI)) (ci := 10) (v := .ref nw_1) (ty := (tyX13 1)) (C := RX13) (T := TX13) (N := 4) hx hb hts in_X13 tyX13 tyX13_ok nmX13 hown hK hP hD hS 0 rfl rfl 1 (by decide) (hts _ q1716) (fun _ h9 => h9) rfl hin rfl (by decide +kernel) rfl rfl (Nat.le_of_ble_eq_true rfl) dX13_init_13 (fun H locs hP hD hS => ?_)
  have hP : va_P (dC, dI) vwCl [(ch, .inr (10, [.null, .ref nw_1, .null, .null])), (nw_1, .inr (13, [.int (nI 0), .ref ed_1, .int 0])), (ed_1, .inl (dA 8, 2, .inr (.inr (.inr (.inr (fun _ => none))))))] H := hP
  have hD : va_D A [(ch, .inr (10, [.null, .ref nw_1, .null, .null])), (nw_1, .inr (13, [.int (nI 0), .ref ed_1, .int 0])), (ed_1, .inl (dA 8, 2, .inr (.inr (.inr (.inr (fun _ => none))))))] := hD
  refine lv_aload_n hx hb dX13_init_16 rfl (lv_at hl 0 rfl) ?_
  refine va_new (D := (dC, dI)) (ci := 13) (fs := [.int 0, .null, .int 0]) (C := RJ20) (T := TJ20) (N := 3) hx hb hts in_J20 tyJ20 tyJ20_ok hown (hts _ q1712) (hts _ q1403) (hts _ q134) hK hP hD hS hA rfl (fun j hj => by rcases (show j = 0 ∨ j = 1 ∨ j = 2 by omega) with rfl | rfl | rfl <;> rfl) (by first | decide | omega) (by first | decide | omega) dX13_init_17 (fun nw_2 H hP hD hS => ?_)
  have hP : va_P (dC, dI) vwCl [(ch, .inr (10, [.null, .ref nw_1, .null, .null])), (nw_1, .inr (13, [.int (nI 0), .ref ed_1, .int 0])), (ed_1, .inl (dA 8, 2, .inr (.inr (.inr (.inr (fun _ => none)))))), (nw_2, .inr (13, [.int 0, .null, .int 0]))] H := hP
  have hD : va_D A [(ch, .inr (10, [.null, .ref nw_1, .null, .null])), (nw_1, .inr (13, [.int (nI 0), .ref ed_1, .int 0])), (ed_1, .inl (dA 8, 2, .inr (.inr (.inr (.inr (fun _ => none)))))), (nw_2, .inr (13, [.int 0, .null, .int 0]))] := hD
  refine lv_dup hx hb dX13_init_20 rfl ?_
  refine lv_iconst (v := nI 2) hx hb dX13_init_21 (by decide) ?_
  have hF9 := va_free (wc := [(nw_2, .inr (13, [.int 0, .null, .int 0]))]) hD hS (fun q h => hA q h) [3] rfl
  refine c_v (wr := [(ch, .inr (10, [.null, .ref nw_1, .null, .null])), (nw_1, .inr (13, [.int (nI 0), .ref ed_1, .int 0])), (ed_1, .inl (dA 8, 2, .inr (.inr (.inr (.inr (fun _ => none))))))]) (va_runI (As := [.int (nI 2)]) (rest := [.ref nw_2, .ref ch]) ⟨hx, hb, hml, hown, hts⟩ (j20_init Z (va_A [(nw_2, .inr (13, [.int 0, .null, .int 0]))] H.size) H.size (fun q h => Or.inr h) Y2 nw_2) (cwI 1 hts (lw_meth q1406) rfl rfl rfl (hts _ q134) (hts _ q1713) (hts _ q1405) rfl (by decide +kernel) ⟨Nat.le_of_ble_eq_true rfl, Nat.le_of_ble_eq_true rfl⟩) (gP_S hG hS (fun q _ h => hF9 q h) ⟨rfl, (hP.sub (ws' := [(nw_2, .inr (13, [.int 0, .null, .int 0]))]) [3] rfl), (hD.sub (ws' := [(nw_2, .inr (13, [.int 0, .null, .int 0]))]) [3] (by decide) rfl).self⟩) rfl rfl hl.1 rfl (lv_room (Nat.le_of_ble_eq_true rfl)) dX13_init_22 ⟨by first | decide | omega | (show _ ≤ (6 : Nat); omega), by first | decide | omega | (show _ ≤ (15 : Nat); omega)⟩) hP hD hS hA [3] [0, 1, 2] rfl rfl (by decide) (by decide) (fun u9 H locs hq hX hz hk hP hD hS => ?_)
  obtain ⟨ed_2, rfl⟩ : ∃ z, z = u9 := ⟨_, rfl⟩
  have hP : va_P (dC, dI) vwCl [(ch, .inr (10, [.null, .ref nw_1, .null, .null])), (nw_1, .inr (13, [.int (nI 0), .ref ed_1, .int 0])), (ed_1, .inl (dA 8, 2, .inr (.inr (.inr (.inr (fun _ => none)))))), (nw_2, .inr (13, [.int (nI 0), .ref ed_2, .int 0])), (ed_2, .inl (dA 8, 2, .inr (.inr (.inr (.inr (fun _ => none))))))] H := hP
  have hD : va_D A [(ch, .inr (10, [.null, .ref nw_1, .null, .null])), (nw_1, .inr (13, [.int (nI 0), .ref ed_1, .int 0])), (ed_1, .inl (dA 8, 2, .inr (.inr (.inr (.inr (fun _ => none)))))), (nw_2, .inr (13, [.int (nI 0), .ref ed_2, .int 0])), (ed_2, .inl (dA 8, 2, .inr (.inr (.inr (.inr (fun _ => none))))))] := hD
  refine va_putF (D := (dC, dI)) (ci := 10) (v := .ref nw_2) (ty := (tyX13 2)) (C := RX13) (T := TX13) (N := 4) hx hb hts in_X13 tyX13 tyX13_ok nmX13 hown hK hP hD hS 0 rfl rfl 2 (by decide) (hts _ q1718) (fun _ h9 => h9) rfl hin rfl (by decide +kernel) rfl rfl (Nat.le_of_ble_eq_true rfl) dX13_init_25 (fun H locs hP hD hS => ?_)
  have hP : va_P (dC, dI) vwCl [(ch, .inr (10, [.null, .ref nw_1, .ref nw_2, .null])), (nw_1, .inr (13, [.int (nI 0), .ref ed_1, .int 0])), (ed_1, .inl (dA 8, 2, .inr (.inr (.inr (.inr (fun _ => none)))))), (nw_2, .inr (13, [.int (nI 0), .ref ed_2, .int 0])), (ed_2, .inl (dA 8, 2, .inr (.inr (.inr (.inr (fun _ => none))))))] H := hP
  have hD : va_D A [(ch, .inr (10, [.null, .ref nw_1, .ref nw_2, .null])), (nw_1, .inr (13, [.int (nI 0), .ref ed_1, .int 0])), (ed_1, .inl (dA 8, 2, .inr (.inr (.inr (.inr (fun _ => none)))))), (nw_2, .inr (13, [.int (nI 0), .ref ed_2, .int 0])), (ed_2, .inl (dA 8, 2, .inr (.inr (.inr (.inr (fun _ => none))))))] := hD
  refine lv_aload_n hx hb dX13_init_28 rfl (lv_at hl 0 rfl) ?_
  refine va_new (D := (dC, dI)) (ci := 13) (fs := [.int 0, .null, .int 0]) (C := RJ20) (T := TJ20) (N := 3) hx hb hts in_J20 tyJ20 tyJ20_ok hown (hts _ q1712) (hts _ q1403) (hts _ q134) hK hP hD hS hA rfl (fun j hj => by rcases (show j = 0 ∨ j = 1 ∨ j = 2 by omega) with rfl | rfl | rfl <;> rfl) (by first | decide | omega) (by first | decide | omega) dX13_init_29 (fun nw_3 H hP hD hS => ?_)
  have hP : va_P (dC, dI) vwCl [(ch, .inr (10, [.null, .ref nw_1, .ref nw_2, .null])), (nw_1, .inr (13, [.int (nI 0), .ref ed_1, .int 0])), (ed_1, .inl (dA 8, 2, .inr (.inr (.inr (.inr (fun _ => none)))))), (nw_2, .inr (13, [.int (nI 0), .ref ed_2, .int 0])), (ed_2, .inl (dA 8, 2, .inr (.inr (.inr (.inr (fun _ => none)))))), (nw_3, .inr (13, [.int 0, .null, .int 0]))] H := hP
  have hD : va_D A [(ch, .inr (10, [.null, .ref nw_1, .ref nw_2, .null])), (nw_1, .inr (13, [.int (nI 0), .ref ed_1, .int 0])), (ed_1, .inl (dA 8, 2, .inr (.inr (.inr (.inr (fun _ => none)))))), (nw_2, .inr (13, [.int (nI 0), .ref ed_2, .int 0])), (ed_2, .inl (dA 8, 2, .inr (.inr (.inr (.inr (fun _ => none)))))), (nw_3, .inr (13, [.int 0, .null, .int 0]))] := hD
  refine lv_dup hx hb dX13_init_32 rfl ?_
  refine lv_iconst (v := nI 2) hx hb dX13_init_33 (by decide) ?_
  have hF9 := va_free (wc := [(nw_3, .inr (13, [.int 0, .null, .int 0]))]) hD hS (fun q h => hA q h) [5] rfl
  refine c_v (wr := [(ch, .inr (10, [.null, .ref nw_1, .ref nw_2, .null])), (nw_1, .inr (13, [.int (nI 0), .ref ed_1, .int 0])), (ed_1, .inl (dA 8, 2, .inr (.inr (.inr (.inr (fun _ => none)))))), (nw_2, .inr (13, [.int (nI 0), .ref ed_2, .int 0])), (ed_2, .inl (dA 8, 2, .inr (.inr (.inr (.inr (fun _ => none))))))]) (va_runI (As := [.int (nI 2)]) (rest := [.ref nw_3, .ref ch]) ⟨hx, hb, hml, hown, hts⟩ (j20_init Z (va_A [(nw_3, .inr (13, [.int 0, .null, .int 0]))] H.size) H.size (fun q h => Or.inr h) Y2 nw_3) (cwI 1 hts (lw_meth q1406) rfl rfl rfl (hts _ q134) (hts _ q1713) (hts _ q1405) rfl (by decide +kernel) ⟨Nat.le_of_ble_eq_true rfl, Nat.le_of_ble_eq_true rfl⟩) (gP_S hG hS (fun q _ h => hF9 q h) ⟨rfl, (hP.sub (ws' := [(nw_3, .inr (13, [.int 0, .null, .int 0]))]) [5] rfl), (hD.sub (ws' := [(nw_3, .inr (13, [.int 0, .null, .int 0]))]) [5] (by decide) rfl).self⟩) rfl rfl hl.1 rfl (lv_room (Nat.le_of_ble_eq_true rfl)) dX13_init_34 ⟨by first | decide | omega | (show _ ≤ (6 : Nat); omega), by first | decide | omega | (show _ ≤ (15 : Nat); omega)⟩) hP hD hS hA [5] [0, 1, 2, 3, 4] rfl rfl (by decide) (by decide) (fun u9 H locs hq hX hz hk hP hD hS => ?_)
  obtain ⟨ed_3, rfl⟩ : ∃ z, z = u9 := ⟨_, rfl⟩
  have hP : va_P (dC, dI) vwCl [(ch, .inr (10, [.null, .ref nw_1, .ref nw_2, .null])), (nw_1, .inr (13, [.int (nI 0), .ref ed_1, .int 0])), (ed_1, .inl (dA 8, 2, .inr (.inr (.inr (.inr (fun _ => none)))))), (nw_2, .inr (13, [.int (nI 0), .ref ed_2, .int 0])), (ed_2, .inl (dA 8, 2, .inr (.inr (.inr (.inr (fun _ => none)))))), (nw_3, .inr (13, [.int (nI 0), .ref ed_3, .int 0])), (ed_3, .inl (dA 8, 2, .inr (.inr (.inr (.inr (fun _ => none))))))] H := hP
  have hD : va_D A [(ch, .inr (10, [.null, .ref nw_1, .ref nw_2, .null])), (nw_1, .inr (13, [.int (nI 0), .ref ed_1, .int 0])), (ed_1, .inl (dA 8, 2, .inr (.inr (.inr (.inr (fun _ => none)))))), (nw_2, .inr (13, [.int (nI 0), .ref ed_2, .int 0])), (ed_2, .inl (dA 8, 2, .inr (.inr (.inr (.inr (fun _ => none)))))), (nw_3, .inr (13, [.int (nI 0), .ref ed_3, .int 0])), (ed_3, .inl (dA 8, 2, .inr (.inr (.inr (.inr (fun _ => none))))))] := hD
  refine va_putF (D := (dC, dI)) (ci := 10) (v := .ref nw_3) (ty := (tyX13 3)) (C := RX13) (T := TX13) (N := 4) hx hb hts in_X13 tyX13 tyX13_ok nmX13 hown hK hP hD hS 0 rfl rfl 3 (by decide) (hts _ q1720) (fun _ h9 => h9) rfl hin rfl (by decide +kernel) rfl rfl (Nat.le_of_ble_eq_true rfl) dX13_init_37 (fun H locs hP hD hS => ?_)
  have hP : va_P (dC, dI) vwCl [(ch, .inr (10, [.null, .ref nw_1, .ref nw_2, .ref nw_3])), (nw_1, .inr (13, [.int (nI 0), .ref ed_1, .int 0])), (ed_1, .inl (dA 8, 2, .inr (.inr (.inr (.inr (fun _ => none)))))), (nw_2, .inr (13, [.int (nI 0), .ref ed_2, .int 0])), (ed_2, .inl (dA 8, 2, .inr (.inr (.inr (.inr (fun _ => none)))))), (nw_3, .inr (13, [.int (nI 0), .ref ed_3, .int 0])), (ed_3, .inl (dA 8, 2, .inr (.inr (.inr (.inr (fun _ => none))))))] H := hP
  have hD : va_D A [(ch, .inr (10, [.null, .ref nw_1, .ref nw_2, .ref nw_3])), (nw_1, .inr (13, [.int (nI 0), .ref ed_1, .int 0])), (ed_1, .inl (dA 8, 2, .inr (.inr (.inr (.inr (fun _ => none)))))), (nw_2, .inr (13, [.int (nI 0), .ref ed_2, .int 0])), (ed_2, .inl (dA 8, 2, .inr (.inr (.inr (.inr (fun _ => none)))))), (nw_3, .inr (13, [.int (nI 0), .ref ed_3, .int 0])), (ed_3, .inl (dA 8, 2, .inr (.inr (.inr (.inr (fun _ => none))))))] := hD
  refine lv_aload_n hx hb dX13_init_40 rfl (lv_at hl 0 rfl) ?_
  refine lv_aload_n hx hb dX13_init_41 rfl (lv_at hl 1 rfl) ?_
  refine va_putF (D := (dC, dI)) (ci := 10) (v := .ref fi) (ty := (tyX13 0)) (C := RX13) (T := TX13) (N := 4) hx hb hts in_X13 tyX13 tyX13_ok nmX13 hown hK hP hD hS 0 rfl rfl 0 (by decide) (hts _ q1714) (fun _ h9 => h9) rfl hin rfl (by decide +kernel) rfl rfl (Nat.le_of_ble_eq_true rfl) dX13_init_42 (fun H locs hP hD hS => ?_)
  have hP : va_P (dC, dI) vwCl [(ch, .inr (10, [.ref fi, .ref nw_1, .ref nw_2, .ref nw_3])), (nw_1, .inr (13, [.int (nI 0), .ref ed_1, .int 0])), (ed_1, .inl (dA 8, 2, .inr (.inr (.inr (.inr (fun _ => none)))))), (nw_2, .inr (13, [.int (nI 0), .ref ed_2, .int 0])), (ed_2, .inl (dA 8, 2, .inr (.inr (.inr (.inr (fun _ => none)))))), (nw_3, .inr (13, [.int (nI 0), .ref ed_3, .int 0])), (ed_3, .inl (dA 8, 2, .inr (.inr (.inr (.inr (fun _ => none))))))] H := hP
  have hD : va_D A [(ch, .inr (10, [.ref fi, .ref nw_1, .ref nw_2, .ref nw_3])), (nw_1, .inr (13, [.int (nI 0), .ref ed_1, .int 0])), (ed_1, .inl (dA 8, 2, .inr (.inr (.inr (.inr (fun _ => none)))))), (nw_2, .inr (13, [.int (nI 0), .ref ed_2, .int 0])), (ed_2, .inl (dA 8, 2, .inr (.inr (.inr (.inr (fun _ => none)))))), (nw_3, .inr (13, [.int (nI 0), .ref ed_3, .int 0])), (ed_3, .inl (dA 8, 2, .inr (.inr (.inr (.inr (fun _ => none))))))] := hD
  have e9 : (fun _ => none : Nat → Option Nat) = (lsE (fun _ => 0) 0) := lsE_0.symm
  rw [e9] at hP hD; clear e9
  have e9 : (fun _ => none : Nat → Option Nat) = (lsE (fun _ => 0) 0) := lsE_0.symm
  rw [e9] at hP hD; clear e9
  have e9 : (fun _ => none : Nat → Option Nat) = (lsE (fun _ => 0) 0) := lsE_0.symm
  rw [e9] at hP hD; clear e9
  subst hQe
  refine W.widen (k := 6) (n := 15) (by first | decide | omega) (by first | decide | omega) ?_
  exact W.vret hx hb hr (fun tz ht hW => ⟨⟨(fun k => [nw_1, ed_1, nw_2, ed_2, nw_3, ed_3].getD k 0), rfl, trivial, B1_at ht (hP.sub [0, 1, 2, 3, 4, 5, 6] rfl) (hD.sub [0, 1, 2, 3, 4, 5, 6] (by decide) rfl) trivial⟩, hS.F ht⟩) hS.2.2 dX13_init_45
set_option maxHeartbeats 4000000 in
theorem x13_goOn {l : Launch} {dC : Nat → ClassId} {dI : Nat → Nat → Nat} {dA : Nat → ClassId} {s0 : State} {b0 : Addr} (Z : Z0 l dC dI dA s0 b0) (A : Nat → Prop) (sz : Nat) (hA : ∀ q : Nat, sz ≤ q → A q) {σ : Nat → Nat} {dS : va_G} (Y2 : S2 (dC, dI) dS dA σ s0) (ch fi : Nat) (u : Nat → Nat) (c9 bm : Nat) (md : Int32) (gO gN gP : Nat → Nat) (ao an pl : Nat) (hc9 : c9 ≤ bm) (h2 : 2 ≤ bm) (h3 : bm ≤ 1500) (hpl : pl < 1000) (hnO : ∀ i, i < c9 → ¬ A (gO i)) (hnN : ∀ i, i < c9 → ¬ A (gN i)) (hnP : ∀ i, i < c9 → ¬ A (gP i)) (hno : ¬ A ao) (hnn : ¬ A an) : Met l yX13_goOn (ws_ yX13_goOn cX13_goOn 4 none) ({ frames := 8, cells := (1 + 3 * (gcp c9 bm - bm)), slots := (1 + 12 * (gcp c9 bm - bm)), locals := 480 } : Room) (gP [.ref ch, .ref ao, .ref an, .int (nI pl)] s0 A (fun H => H.size = sz ∧ va_P (dC, dI) vwCl [(ch, .inr (10, [.ref fi, .ref (u 0), .ref (u 2), .ref (u 4)])), ((u 0), .inr (13, [.int md, .ref (u 1), .int (nI c9)])), ((u 1), .inl (dA 8, bm, .inr (.inr (.inr (.inr (lsE gO c9)))))), ((u 2), .inr (13, [.int md, .ref (u 3), .int (nI c9)])), ((u 3), .inl (dA 8, bm, .inr (.inr (.inr (.inr (lsE gN c9)))))), ((u 4), .inr (13, [.int md, .ref (u 5), .int (nI c9)])), ((u 5), .inl (dA 8, bm, .inr (.inr (.inr (.inr (lsE gP c9))))))] H ∧ va_D A [(ch, .inr (10, [.ref fi, .ref (u 0), .ref (u 2), .ref (u 4)])), ((u 0), .inr (13, [.int md, .ref (u 1), .int (nI c9)])), ((u 1), .inl (dA 8, bm, .inr (.inr (.inr (.inr (lsE gO c9)))))), ((u 2), .inr (13, [.int md, .ref (u 3), .int (nI c9)])), ((u 3), .inl (dA 8, bm, .inr (.inr (.inr (.inr (lsE gN c9)))))), ((u 4), .inr (13, [.int md, .ref (u 5), .int (nI c9)])), ((u 5), .inl (dA 8, bm, .inr (.inr (.inr (.inr (lsE gP c9))))))] ∧ (∀ i, i < c9 → OBJ s0 H (gO i)) ∧ (∀ i, i < c9 → OBJ s0 H (gN i)) ∧ (∀ i, i < c9 → OBJ s0 H (gP i)) ∧ OBJ s0 H ao ∧ OBJ s0 H an)) (va_Qv (S := (Nat → Nat) × Nat × va_W) (fun _ => True) (B1 (dC, dI) A (fun v => [(ch, .inr (10, [.ref fi, .ref (v.1 0), .ref (v.1 2), .ref (v.1 4)])), ((v.1 0), .inr (13, [.int (md + nI 1), .ref (v.1 1), .int (nI (c9 + 1))])), ((v.1 1), .inl (dA 8, (gcp c9 bm), .inr (.inr (.inr (.inr (lsE (updN gO c9 ao) (c9 + 1))))))), ((v.1 2), .inr (13, [.int (md + nI 1), .ref (v.1 3), .int (nI (c9 + 1))])), ((v.1 3), .inl (dA 8, (gcp c9 bm), .inr (.inr (.inr (.inr (lsE (updN gN c9 an) (c9 + 1))))))), ((v.1 4), .inr (13, [.int (md + nI 1), .ref (v.1 5), .int (nI (c9 + 1))])), ((v.1 5), .inl (dA 8, (gcp c9 bm), .inr (.inr (.inr (.inr (lsE (updN gP c9 v.2.1) (c9 + 1)))))))] ++ v.2.2) (fun v _ => (v.2.2 = [] ∧ v.2.1 = σ (1128 + pl) ∧ pl < 128) ∨ v.2.2 = [(v.2.1, .inr (16, [.int (nI pl)]))])) A) (1 + 3 * (gcp c9 bm - bm)) (1 + 12 * (gcp c9 bm - bm)) A := by
  refine Met.ofW (cc := cX13_goOn) (maxL := 4) (ret := none) (by decide) rfl ?_
  intro p e s m args below meth c s₁ B hml hv
  obtain ⟨hav, hG, hsz, hP, hD, hO, hN, hPl, hoO, hoN⟩ := hv
  have hx := B.exec
  have hb := B.bytes
  have hr := B.returns
  have hts := atoms_spec (ws := (ws_ yX13_goOn cX13_goOn 4 none)) B.pre
  have hts : ∀ w ∈ lw_all, w.before _ s = true := fun w h => hts w (List.mem_cons_of_mem _ h)
  have hown : s.vm.findClass RX13 = some m.cls := findClass_of_methodNamed B.named
  have hlocks := B.notSynchronized
  have hK := hG.K Z
  subst hsz
  have hS : va_S A s.heap s.heap [] := va_S.rf
  have hl := lv_entry ([.ref ch, .ref ao, .ref an, .int (nI pl)]) (n := 4) (Nat.le_of_ble_eq_true rfl)
  rw [show entryFrame m args 4 = entryFrame m ([.ref ch, .ref ao, .ref an, .int (nI pl)] : List Value).toArray 4 from by rw [hav], lg_entry_eq]
  generalize (lg_sl ([.ref ch, .ref ao, .ref an, .int (nI pl)]) ++ List.replicate (4 - (lg_sl ([.ref ch, .ref ao, .ref an, .int (nI pl)])).length) Slot.unset).toArray = ls at hl ⊢
  have hl : lv_has ls 4 [(0, .ref ch), (1, .ref ao), (2, .ref an), (3, .int (nI pl))] := hl
  generalize hQe : MQ below _ _ s _ _ _ = Q
  change W p l e ({ frames := 8, cells := (1 + 3 * (gcp c9 bm - bm)), slots := (1 + 12 * (gcp c9 bm - bm)), locals := 480 } : Room) s m args below meth c s.heap [] 0 0 Q (F0 m 0 ls [])
  obtain ⟨-, -, cI, -, -, hI5⟩ := Y2.2.2.2.2.1
  refine lv_aload_n hx hb dX13_goOn_0 rfl (lv_at hl 0 rfl) ?_
  refine va_get (D := (dC, dI)) (ci := 10) (v := .ref (u 0)) (C := RX13) (T := TX13) (N := 4) hx hb hts in_X13 hown hK hP 0 rfl rfl 1 (by decide) (hts _ q1716) (fun _ h9 => h9) rfl dX13_goOn_1 ?_
  refine lv_aload_n hx hb dX13_goOn_4 rfl (lv_at hl 1 rfl) ?_
  have hF9 := va_free (wc := [((u 0), .inr (13, [.int md, .ref (u 1), .int (nI c9)])), ((u 1), .inl (dA 8, bm, .inr (.inr (.inr (.inr (lsE gO c9))))))]) hD hS (fun q h => hA q h) [1, 2] rfl
  refine c_i (wr := [(ch, .inr (10, [.ref fi, .ref (u 0), .ref (u 2), .ref (u 4)])), ((u 2), .inr (13, [.int md, .ref (u 3), .int (nI c9)])), ((u 3), .inl (dA 8, bm, .inr (.inr (.inr (.inr (lsE gN c9)))))), ((u 4), .inr (13, [.int md, .ref (u 5), .int (nI c9)])), ((u 5), .inl (dA 8, bm, .inr (.inr (.inr (.inr (lsE gP c9))))))]) (va_runV (As := [.ref ao]) (rest := []) ⟨hx, hb, hml, hown, hts⟩ (j20_add Z (va_A [((u 0), .inr (13, [.int md, .ref (u 1), .int (nI c9)])), ((u 1), .inl (dA 8, bm, .inr (.inr (.inr (.inr (lsE gO c9))))))] s.heap.size) s.heap.size (fun q h => Or.inr h) Y2 (u 0) (u 1) bm md gO c9 ao hc9 (by omega) (by omega) (fun i hi h => hnO i hi (hF9 _ h)) (fun h => hno (hF9 _ h))) (cwV 1 hts (lw_V q1739 q1627 q1628 q134 q1629) rfl rfl rfl (by decide +kernel) ⟨Nat.le_of_ble_eq_true rfl, Nat.le_of_ble_eq_true rfl⟩) (gP_V (va_recv hK hP (ci := 13) (q0 := 1) rfl rfl) hG hS (fun q _ h => hF9 q h) ⟨rfl, (hP.sub (ws' := [((u 0), .inr (13, [.int md, .ref (u 1), .int (nI c9)])), ((u 1), .inl (dA 8, bm, .inr (.inr (.inr (.inr (lsE gO c9))))))]) [1, 2] rfl), (hD.sub (ws' := [((u 0), .inr (13, [.int md, .ref (u 1), .int (nI c9)])), ((u 1), .inl (dA 8, bm, .inr (.inr (.inr (.inr (lsE gO c9))))))]) [1, 2] (by decide) rfl).self, (fun i hi => (hO i hi).to (hS.2.1 _ (hO i hi).lt (hnO i hi))), (hoO.to (hS.2.1 _ hoO.lt hno))⟩) rfl rfl hl.1 rfl (lv_room (Nat.le_of_ble_eq_true rfl)) dX13_goOn_5 ⟨by first | decide | omega | (show _ ≤ ((1 + 3 * (gcp c9 bm - bm)) : Nat); omega), by first | decide | omega | (show _ ≤ ((1 + 12 * (gcp c9 bm - bm)) : Nat); omega)⟩) hP hD hS hA [1, 2] [0, 3, 4, 5, 6] rfl rfl (by decide) (by decide) (fun r9 u9 H locs hq hX hz hk hP hD hS => ?_)
  obtain ⟨r_1, rfl⟩ : ∃ z, z = r9 := ⟨_, rfl⟩
  obtain ⟨ed_1, rfl⟩ : ∃ z, z = u9 := ⟨_, rfl⟩
  have hP : va_P (dC, dI) vwCl [(ch, .inr (10, [.ref fi, .ref (u 0), .ref (u 2), .ref (u 4)])), ((u 2), .inr (13, [.int md, .ref (u 3), .int (nI c9)])), ((u 3), .inl (dA 8, bm, .inr (.inr (.inr (.inr (lsE gN c9)))))), ((u 4), .inr (13, [.int md, .ref (u 5), .int (nI c9)])), ((u 5), .inl (dA 8, bm, .inr (.inr (.inr (.inr (lsE gP c9)))))), ((u 0), .inr (13, [.int (md + nI 1), .ref ed_1, .int (nI (c9 + 1))])), (ed_1, .inl (dA 8, (gcp c9 bm), .inr (.inr (.inr (.inr (lsE (updN gO c9 ao) (c9 + 1)))))))] H := hP
  have hD : va_D A [(ch, .inr (10, [.ref fi, .ref (u 0), .ref (u 2), .ref (u 4)])), ((u 2), .inr (13, [.int md, .ref (u 3), .int (nI c9)])), ((u 3), .inl (dA 8, bm, .inr (.inr (.inr (.inr (lsE gN c9)))))), ((u 4), .inr (13, [.int md, .ref (u 5), .int (nI c9)])), ((u 5), .inl (dA 8, bm, .inr (.inr (.inr (.inr (lsE gP c9)))))), ((u 0), .inr (13, [.int (md + nI 1), .ref ed_1, .int (nI (c9 + 1))])), (ed_1, .inl (dA 8, (gcp c9 bm), .inr (.inr (.inr (.inr (lsE (updN gO c9 ao) (c9 + 1)))))))] := hD
  refine lv_pop hx hb dX13_goOn_8 rfl ?_
  refine lv_aload_n hx hb dX13_goOn_9 rfl (lv_at hl 0 rfl) ?_
  refine va_get (D := (dC, dI)) (ci := 10) (v := .ref (u 2)) (C := RX13) (T := TX13) (N := 4) hx hb hts in_X13 hown hK hP 0 rfl rfl 2 (by decide) (hts _ q1718) (fun _ h9 => h9) rfl dX13_goOn_10 ?_
  refine lv_aload_n hx hb dX13_goOn_13 rfl (lv_at hl 2 rfl) ?_
  have hF9 := va_free (wc := [((u 2), .inr (13, [.int md, .ref (u 3), .int (nI c9)])), ((u 3), .inl (dA 8, bm, .inr (.inr (.inr (.inr (lsE gN c9))))))]) hD hS (fun q h => hA q h) [1, 2] rfl
  refine c_i (wr := [(ch, .inr (10, [.ref fi, .ref (u 0), .ref (u 2), .ref (u 4)])), ((u 4), .inr (13, [.int md, .ref (u 5), .int (nI c9)])), ((u 5), .inl (dA 8, bm, .inr (.inr (.inr (.inr (lsE gP c9)))))), ((u 0), .inr (13, [.int (md + nI 1), .ref ed_1, .int (nI (c9 + 1))])), (ed_1, .inl (dA 8, (gcp c9 bm), .inr (.inr (.inr (.inr (lsE (updN gO c9 ao) (c9 + 1)))))))]) (va_runV (As := [.ref an]) (rest := []) ⟨hx, hb, hml, hown, hts⟩ (j20_add Z (va_A [((u 2), .inr (13, [.int md, .ref (u 3), .int (nI c9)])), ((u 3), .inl (dA 8, bm, .inr (.inr (.inr (.inr (lsE gN c9))))))] H.size) H.size (fun q h => Or.inr h) Y2 (u 2) (u 3) bm md gN c9 an hc9 (by omega) (by omega) (fun i hi h => hnN i hi (hF9 _ h)) (fun h => hnn (hF9 _ h))) (cwV 1 hts (lw_V q1739 q1627 q1628 q134 q1629) rfl rfl rfl (by decide +kernel) ⟨Nat.le_of_ble_eq_true rfl, Nat.le_of_ble_eq_true rfl⟩) (gP_V (va_recv hK hP (ci := 13) (q0 := 1) rfl rfl) hG hS (fun q _ h => hF9 q h) ⟨rfl, (hP.sub (ws' := [((u 2), .inr (13, [.int md, .ref (u 3), .int (nI c9)])), ((u 3), .inl (dA 8, bm, .inr (.inr (.inr (.inr (lsE gN c9))))))]) [1, 2] rfl), (hD.sub (ws' := [((u 2), .inr (13, [.int md, .ref (u 3), .int (nI c9)])), ((u 3), .inl (dA 8, bm, .inr (.inr (.inr (.inr (lsE gN c9))))))]) [1, 2] (by decide) rfl).self, (fun i hi => (hN i hi).to (hS.2.1 _ (hN i hi).lt (hnN i hi))), (hoN.to (hS.2.1 _ hoN.lt hnn))⟩) rfl rfl hl.1 rfl (lv_room (Nat.le_of_ble_eq_true rfl)) dX13_goOn_14 ⟨by first | decide | omega | (show _ ≤ ((1 + 3 * (gcp c9 bm - bm)) : Nat); omega), by first | decide | omega | (show _ ≤ ((1 + 12 * (gcp c9 bm - bm)) : Nat); omega)⟩) hP hD hS hA [1, 2] [0, 3, 4, 5, 6] rfl rfl (by decide) (by decide) (fun r9 u9 H locs hq hX hz hk hP hD hS => ?_)
  obtain ⟨r_2, rfl⟩ : ∃ z, z = r9 := ⟨_, rfl⟩
  obtain ⟨ed_2, rfl⟩ : ∃ z, z = u9 := ⟨_, rfl⟩
  have hP : va_P (dC, dI) vwCl [(ch, .inr (10, [.ref fi, .ref (u 0), .ref (u 2), .ref (u 4)])), ((u 4), .inr (13, [.int md, .ref (u 5), .int (nI c9)])), ((u 5), .inl (dA 8, bm, .inr (.inr (.inr (.inr (lsE gP c9)))))), ((u 0), .inr (13, [.int (md + nI 1), .ref ed_1, .int (nI (c9 + 1))])), (ed_1, .inl (dA 8, (gcp c9 bm), .inr (.inr (.inr (.inr (lsE (updN gO c9 ao) (c9 + 1))))))), ((u 2), .inr (13, [.int (md + nI 1), .ref ed_2, .int (nI (c9 + 1))])), (ed_2, .inl (dA 8, (gcp c9 bm), .inr (.inr (.inr (.inr (lsE (updN gN c9 an) (c9 + 1)))))))] H := hP
  have hD : va_D A [(ch, .inr (10, [.ref fi, .ref (u 0), .ref (u 2), .ref (u 4)])), ((u 4), .inr (13, [.int md, .ref (u 5), .int (nI c9)])), ((u 5), .inl (dA 8, bm, .inr (.inr (.inr (.inr (lsE gP c9)))))), ((u 0), .inr (13, [.int (md + nI 1), .ref ed_1, .int (nI (c9 + 1))])), (ed_1, .inl (dA 8, (gcp c9 bm), .inr (.inr (.inr (.inr (lsE (updN gO c9 ao) (c9 + 1))))))), ((u 2), .inr (13, [.int (md + nI 1), .ref ed_2, .int (nI (c9 + 1))])), (ed_2, .inl (dA 8, (gcp c9 bm), .inr (.inr (.inr (.inr (lsE (updN gN c9 an) (c9 + 1)))))))] := hD
  refine lv_pop hx hb dX13_goOn_17 rfl ?_
  refine lv_aload_n hx hb dX13_goOn_18 rfl (lv_at hl 0 rfl) ?_
  refine va_get (D := (dC, dI)) (ci := 10) (v := .ref (u 4)) (C := RX13) (T := TX13) (N := 4) hx hb hts in_X13 hown hK hP 0 rfl rfl 3 (by decide) (hts _ q1720) (fun _ h9 => h9) rfl dX13_goOn_19 ?_
  refine lv_iload_n hx hb dX13_goOn_22 rfl (lv_at hl 3 rfl) ?_
  have hF9 := va_free (wc := []) hD hS (fun q h => hA q h) [] rfl
  refine c_r (wr := [(ch, .inr (10, [.ref fi, .ref (u 0), .ref (u 2), .ref (u 4)])), ((u 4), .inr (13, [.int md, .ref (u 5), .int (nI c9)])), ((u 5), .inl (dA 8, bm, .inr (.inr (.inr (.inr (lsE gP c9)))))), ((u 0), .inr (13, [.int (md + nI 1), .ref ed_1, .int (nI (c9 + 1))])), (ed_1, .inl (dA 8, (gcp c9 bm), .inr (.inr (.inr (.inr (lsE (updN gO c9 ao) (c9 + 1))))))), ((u 2), .inr (13, [.int (md + nI 1), .ref ed_2, .int (nI (c9 + 1))])), (ed_2, .inl (dA 8, (gcp c9 bm), .inr (.inr (.inr (.inr (lsE (updN gN c9 an) (c9 + 1)))))))]) (va_runS (As := [.int (nI pl)]) (rest := [.ref (u 4)]) ⟨hx, hb, hml, hown, hts⟩ (j24_valueOf Z (va_A [] H.size) H.size (fun q h => Or.inr h) Y2 pl (by omega)) (va_cwS 1 hts (lw_S q1740 q1741 q139 q1742) rfl rfl rfl (by decide +kernel) ⟨Nat.le_of_ble_eq_true rfl, Nat.le_of_ble_eq_true rfl⟩) (gP_S hG hS (fun q _ h => hF9 q h) rfl) rfl rfl hl.1 rfl (lv_room (Nat.le_of_ble_eq_true rfl)) dX13_goOn_23 ⟨by first | decide | omega | (show _ ≤ ((1 + 3 * (gcp c9 bm - bm)) : Nat); omega), by first | decide | omega | (show _ ≤ ((1 + 12 * (gcp c9 bm - bm)) : Nat); omega)⟩) hP hD hS hA [] [0, 1, 2, 3, 4, 5, 6] rfl rfl (by decide) (by decide) (fun u9 ra9 H locs hq hX hz hk hP hD hS => ?_)
  obtain ⟨ra_3, rfl⟩ : ∃ z, z = ra9 := ⟨_, rfl⟩
  have hP : va_P (dC, dI) vwCl ([(ch, .inr (10, [.ref fi, .ref (u 0), .ref (u 2), .ref (u 4)])), ((u 4), .inr (13, [.int md, .ref (u 5), .int (nI c9)])), ((u 5), .inl (dA 8, bm, .inr (.inr (.inr (.inr (lsE gP c9)))))), ((u 0), .inr (13, [.int (md + nI 1), .ref ed_1, .int (nI (c9 + 1))])), (ed_1, .inl (dA 8, (gcp c9 bm), .inr (.inr (.inr (.inr (lsE (updN gO c9 ao) (c9 + 1))))))), ((u 2), .inr (13, [.int (md + nI 1), .ref ed_2, .int (nI (c9 + 1))])), (ed_2, .inl (dA 8, (gcp c9 bm), .inr (.inr (.inr (.inr (lsE (updN gN c9 an) (c9 + 1)))))))] ++ u9) H := hP
  have hD : va_D A ([(ch, .inr (10, [.ref fi, .ref (u 0), .ref (u 2), .ref (u 4)])), ((u 4), .inr (13, [.int md, .ref (u 5), .int (nI c9)])), ((u 5), .inl (dA 8, bm, .inr (.inr (.inr (.inr (lsE gP c9)))))), ((u 0), .inr (13, [.int (md + nI 1), .ref ed_1, .int (nI (c9 + 1))])), (ed_1, .inl (dA 8, (gcp c9 bm), .inr (.inr (.inr (.inr (lsE (updN gO c9 ao) (c9 + 1))))))), ((u 2), .inr (13, [.int (md + nI 1), .ref ed_2, .int (nI (c9 + 1))])), (ed_2, .inl (dA 8, (gcp c9 bm), .inr (.inr (.inr (.inr (lsE (updN gN c9 an) (c9 + 1)))))))] ++ u9) := hD
  rcases hX with ⟨rfl, rfl, hv128⟩ | rfl
  · have hpI := hG.RO (hI5 pl hv128)
    have hpo : OBJ s0 _ (σ (1128 + pl)) := ⟨_, q2620, EO.of Z.1 (hpI.up hS) (q0 := 0) rfl rfl⟩
    have hpn : ¬ A (σ (1128 + pl)) := hpI.2 0 _ rfl
    have hP : va_P (dC, dI) vwCl [(ch, .inr (10, [.ref fi, .ref (u 0), .ref (u 2), .ref (u 4)])), ((u 4), .inr (13, [.int md, .ref (u 5), .int (nI c9)])), ((u 5), .inl (dA 8, bm, .inr (.inr (.inr (.inr (lsE gP c9)))))), ((u 0), .inr (13, [.int (md + nI 1), .ref ed_1, .int (nI (c9 + 1))])), (ed_1, .inl (dA 8, (gcp c9 bm), .inr (.inr (.inr (.inr (lsE (updN gO c9 ao) (c9 + 1))))))), ((u 2), .inr (13, [.int (md + nI 1), .ref ed_2, .int (nI (c9 + 1))])), (ed_2, .inl (dA 8, (gcp c9 bm), .inr (.inr (.inr (.inr (lsE (updN gN c9 an) (c9 + 1)))))))] H := hP
    have hD : va_D A [(ch, .inr (10, [.ref fi, .ref (u 0), .ref (u 2), .ref (u 4)])), ((u 4), .inr (13, [.int md, .ref (u 5), .int (nI c9)])), ((u 5), .inl (dA 8, bm, .inr (.inr (.inr (.inr (lsE gP c9)))))), ((u 0), .inr (13, [.int (md + nI 1), .ref ed_1, .int (nI (c9 + 1))])), (ed_1, .inl (dA 8, (gcp c9 bm), .inr (.inr (.inr (.inr (lsE (updN gO c9 ao) (c9 + 1))))))), ((u 2), .inr (13, [.int (md + nI 1), .ref ed_2, .int (nI (c9 + 1))])), (ed_2, .inl (dA 8, (gcp c9 bm), .inr (.inr (.inr (.inr (lsE (updN gN c9 an) (c9 + 1)))))))] := hD
    have hF9 := va_free (wc := [((u 4), .inr (13, [.int md, .ref (u 5), .int (nI c9)])), ((u 5), .inl (dA 8, bm, .inr (.inr (.inr (.inr (lsE gP c9))))))]) hD hS (fun q h => hA q h) [1, 2] rfl
    refine c_i (wr := [(ch, .inr (10, [.ref fi, .ref (u 0), .ref (u 2), .ref (u 4)])), ((u 0), .inr (13, [.int (md + nI 1), .ref ed_1, .int (nI (c9 + 1))])), (ed_1, .inl (dA 8, (gcp c9 bm), .inr (.inr (.inr (.inr (lsE (updN gO c9 ao) (c9 + 1))))))), ((u 2), .inr (13, [.int (md + nI 1), .ref ed_2, .int (nI (c9 + 1))])), (ed_2, .inl (dA 8, (gcp c9 bm), .inr (.inr (.inr (.inr (lsE (updN gN c9 an) (c9 + 1)))))))]) (va_runV (As := [.ref (σ (1128 + pl))]) (rest := []) ⟨hx, hb, hml, hown, hts⟩ (j20_add Z (va_A [((u 4), .inr (13, [.int md, .ref (u 5), .int (nI c9)])), ((u 5), .inl (dA 8, bm, .inr (.inr (.inr (.inr (lsE gP c9))))))] H.size) H.size (fun q h => Or.inr h) Y2 (u 4) (u 5) bm md gP c9 (σ (1128 + pl)) hc9 (by omega) (by omega) (fun i hi h => hnP i hi (hF9 _ h)) (fun h => hpn (hF9 _ h))) (cwV 1 hts (lw_V q1739 q1627 q1628 q134 q1629) rfl rfl rfl (by decide +kernel) ⟨Nat.le_of_ble_eq_true rfl, Nat.le_of_ble_eq_true rfl⟩) (gP_V (va_recv hK hP (ci := 13) (q0 := 1) rfl rfl) hG hS (fun q _ h => hF9 q h) ⟨rfl, (hP.sub (ws' := [((u 4), .inr (13, [.int md, .ref (u 5), .int (nI c9)])), ((u 5), .inl (dA 8, bm, .inr (.inr (.inr (.inr (lsE gP c9))))))]) [1, 2] rfl), (hD.sub (ws' := [((u 4), .inr (13, [.int md, .ref (u 5), .int (nI c9)])), ((u 5), .inl (dA 8, bm, .inr (.inr (.inr (.inr (lsE gP c9))))))]) [1, 2] (by decide) rfl).self, (fun i hi => (hPl i hi).to (hS.2.1 _ (hPl i hi).lt (hnP i hi))), hpo⟩) rfl rfl hl.1 rfl (lv_room (Nat.le_of_ble_eq_true rfl)) dX13_goOn_26 ⟨by first | decide | omega | (show _ ≤ ((1 + 3 * (gcp c9 bm - bm)) : Nat); omega), by first | decide | omega | (show _ ≤ ((1 + 12 * (gcp c9 bm - bm)) : Nat); omega)⟩) hP hD hS hA [1, 2] [0, 3, 4, 5, 6] rfl rfl (by decide) (by decide) (fun r9 u9 H locs hq hX hz hk hP hD hS => ?_)
    obtain ⟨r_4, rfl⟩ : ∃ z, z = r9 := ⟨_, rfl⟩
    obtain ⟨ed_4, rfl⟩ : ∃ z, z = u9 := ⟨_, rfl⟩
    have hP : va_P (dC, dI) vwCl [(ch, .inr (10, [.ref fi, .ref (u 0), .ref (u 2), .ref (u 4)])), ((u 0), .inr (13, [.int (md + nI 1), .ref ed_1, .int (nI (c9 + 1))])), (ed_1, .inl (dA 8, (gcp c9 bm), .inr (.inr (.inr (.inr (lsE (updN gO c9 ao) (c9 + 1))))))), ((u 2), .inr (13, [.int (md + nI 1), .ref ed_2, .int (nI (c9 + 1))])), (ed_2, .inl (dA 8, (gcp c9 bm), .inr (.inr (.inr (.inr (lsE (updN gN c9 an) (c9 + 1))))))), ((u 4), .inr (13, [.int (md + nI 1), .ref ed_4, .int (nI (c9 + 1))])), (ed_4, .inl (dA 8, (gcp c9 bm), .inr (.inr (.inr (.inr (lsE (updN gP c9 (σ (1128 + pl))) (c9 + 1)))))))] H := hP
    have hD : va_D A [(ch, .inr (10, [.ref fi, .ref (u 0), .ref (u 2), .ref (u 4)])), ((u 0), .inr (13, [.int (md + nI 1), .ref ed_1, .int (nI (c9 + 1))])), (ed_1, .inl (dA 8, (gcp c9 bm), .inr (.inr (.inr (.inr (lsE (updN gO c9 ao) (c9 + 1))))))), ((u 2), .inr (13, [.int (md + nI 1), .ref ed_2, .int (nI (c9 + 1))])), (ed_2, .inl (dA 8, (gcp c9 bm), .inr (.inr (.inr (.inr (lsE (updN gN c9 an) (c9 + 1))))))), ((u 4), .inr (13, [.int (md + nI 1), .ref ed_4, .int (nI (c9 + 1))])), (ed_4, .inl (dA 8, (gcp c9 bm), .inr (.inr (.inr (.inr (lsE (updN gP c9 (σ (1128 + pl))) (c9 + 1)))))))] := hD
    refine lv_pop hx hb dX13_goOn_29 rfl ?_
    subst hQe
    refine W.widen (k := (1 + 3 * (gcp c9 bm - bm))) (n := (1 + 12 * (gcp c9 bm - bm))) (by first | decide | omega) (by first | decide | omega) ?_
    exact W.vret hx hb hr (fun tz ht hW => ⟨⟨((fun k => [(u 0), ed_1, (u 2), ed_2, (u 4), ed_4].getD k 0), (σ (1128 + pl)), []), rfl, trivial, B1_at ht (hP.sub [0, 1, 2, 3, 4, 5, 6] rfl) (hD.sub [0, 1, 2, 3, 4, 5, 6] (by decide) rfl) (Or.inl ⟨rfl, rfl, hv128⟩)⟩, hS.F ht⟩) hS.2.2 dX13_goOn_30
  · have hP : va_P (dC, dI) vwCl [(ch, .inr (10, [.ref fi, .ref (u 0), .ref (u 2), .ref (u 4)])), ((u 4), .inr (13, [.int md, .ref (u 5), .int (nI c9)])), ((u 5), .inl (dA 8, bm, .inr (.inr (.inr (.inr (lsE gP c9)))))), ((u 0), .inr (13, [.int (md + nI 1), .ref ed_1, .int (nI (c9 + 1))])), (ed_1, .inl (dA 8, (gcp c9 bm), .inr (.inr (.inr (.inr (lsE (updN gO c9 ao) (c9 + 1))))))), ((u 2), .inr (13, [.int (md + nI 1), .ref ed_2, .int (nI (c9 + 1))])), (ed_2, .inl (dA 8, (gcp c9 bm), .inr (.inr (.inr (.inr (lsE (updN gN c9 an) (c9 + 1))))))), (ra_3, .inr (16, [.int (nI pl)]))] H := hP
    have hD : va_D A [(ch, .inr (10, [.ref fi, .ref (u 0), .ref (u 2), .ref (u 4)])), ((u 4), .inr (13, [.int md, .ref (u 5), .int (nI c9)])), ((u 5), .inl (dA 8, bm, .inr (.inr (.inr (.inr (lsE gP c9)))))), ((u 0), .inr (13, [.int (md + nI 1), .ref ed_1, .int (nI (c9 + 1))])), (ed_1, .inl (dA 8, (gcp c9 bm), .inr (.inr (.inr (.inr (lsE (updN gO c9 ao) (c9 + 1))))))), ((u 2), .inr (13, [.int (md + nI 1), .ref ed_2, .int (nI (c9 + 1))])), (ed_2, .inl (dA 8, (gcp c9 bm), .inr (.inr (.inr (.inr (lsE (updN gN c9 an) (c9 + 1))))))), (ra_3, .inr (16, [.int (nI pl)]))] := hD
    have hF9 := va_free (wc := [((u 4), .inr (13, [.int md, .ref (u 5), .int (nI c9)])), ((u 5), .inl (dA 8, bm, .inr (.inr (.inr (.inr (lsE gP c9))))))]) hD hS (fun q h => hA q h) [1, 2] rfl
    refine c_i (wr := [(ch, .inr (10, [.ref fi, .ref (u 0), .ref (u 2), .ref (u 4)])), ((u 0), .inr (13, [.int (md + nI 1), .ref ed_1, .int (nI (c9 + 1))])), (ed_1, .inl (dA 8, (gcp c9 bm), .inr (.inr (.inr (.inr (lsE (updN gO c9 ao) (c9 + 1))))))), ((u 2), .inr (13, [.int (md + nI 1), .ref ed_2, .int (nI (c9 + 1))])), (ed_2, .inl (dA 8, (gcp c9 bm), .inr (.inr (.inr (.inr (lsE (updN gN c9 an) (c9 + 1))))))), (ra_3, .inr (16, [.int (nI pl)]))]) (va_runV (As := [.ref ra_3]) (rest := []) ⟨hx, hb, hml, hown, hts⟩ (j20_add Z (va_A [((u 4), .inr (13, [.int md, .ref (u 5), .int (nI c9)])), ((u 5), .inl (dA 8, bm, .inr (.inr (.inr (.inr (lsE gP c9))))))] H.size) H.size (fun q h => Or.inr h) Y2 (u 4) (u 5) bm md gP c9 ra_3 hc9 (by omega) (by omega) (fun i hi h => hnP i hi (hF9 _ h)) ((RO.beside (wr := [(ra_3, .inr (16, [.int (nI pl)]))]) hP hD [1, 2] [7] rfl rfl (by decide)).2 0 _ rfl)) (cwV 1 hts (lw_V q1739 q1627 q1628 q134 q1629) rfl rfl rfl (by decide +kernel) ⟨Nat.le_of_ble_eq_true rfl, Nat.le_of_ble_eq_true rfl⟩) (gP_V (va_recv hK hP (ci := 13) (q0 := 1) rfl rfl) hG hS (fun q _ h => hF9 q h) ⟨rfl, (hP.sub (ws' := [((u 4), .inr (13, [.int md, .ref (u 5), .int (nI c9)])), ((u 5), .inl (dA 8, bm, .inr (.inr (.inr (.inr (lsE gP c9))))))]) [1, 2] rfl), (hD.sub (ws' := [((u 4), .inr (13, [.int md, .ref (u 5), .int (nI c9)])), ((u 5), .inl (dA 8, bm, .inr (.inr (.inr (.inr (lsE gP c9))))))]) [1, 2] (by decide) rfl).self, (fun i hi => (hPl i hi).to (hS.2.1 _ (hPl i hi).lt (hnP i hi))), ⟨_, q2620, EO.of Z.1 hP (q0 := 7) rfl rfl⟩⟩) rfl rfl hl.1 rfl (lv_room (Nat.le_of_ble_eq_true rfl)) dX13_goOn_26 ⟨by first | decide | omega | (show _ ≤ ((1 + 3 * (gcp c9 bm - bm)) : Nat); omega), by first | decide | omega | (show _ ≤ ((1 + 12 * (gcp c9 bm - bm)) : Nat); omega)⟩) hP hD hS hA [1, 2] [0, 3, 4, 5, 6, 7] rfl rfl (by decide) (by decide) (fun r9 u9 H locs hq hX hz hk hP hD hS => ?_)
    obtain ⟨r_5, rfl⟩ : ∃ z, z = r9 := ⟨_, rfl⟩
    obtain ⟨ed_5, rfl⟩ : ∃ z, z = u9 := ⟨_, rfl⟩
    have hP : va_P (dC, dI) vwCl [(ch, .inr (10, [.ref fi, .ref (u 0), .ref (u 2), .ref (u 4)])), ((u 0), .inr (13, [.int (md + nI 1), .ref ed_1, .int (nI (c9 + 1))])), (ed_1, .inl (dA 8, (gcp c9 bm), .inr (.inr (.inr (.inr (lsE (updN gO c9 ao) (c9 + 1))))))), ((u 2), .inr (13, [.int (md + nI 1), .ref ed_2, .int (nI (c9 + 1))])), (ed_2, .inl (dA 8, (gcp c9 bm), .inr (.inr (.inr (.inr (lsE (updN gN c9 an) (c9 + 1))))))), (ra_3, .inr (16, [.int (nI pl)])), ((u 4), .inr (13, [.int (md + nI 1), .ref ed_5, .int (nI (c9 + 1))])), (ed_5, .inl (dA 8, (gcp c9 bm), .inr (.inr (.inr (.inr (lsE (updN gP c9 ra_3) (c9 + 1)))))))] H := hP
    have hD : va_D A [(ch, .inr (10, [.ref fi, .ref (u 0), .ref (u 2), .ref (u 4)])), ((u 0), .inr (13, [.int (md + nI 1), .ref ed_1, .int (nI (c9 + 1))])), (ed_1, .inl (dA 8, (gcp c9 bm), .inr (.inr (.inr (.inr (lsE (updN gO c9 ao) (c9 + 1))))))), ((u 2), .inr (13, [.int (md + nI 1), .ref ed_2, .int (nI (c9 + 1))])), (ed_2, .inl (dA 8, (gcp c9 bm), .inr (.inr (.inr (.inr (lsE (updN gN c9 an) (c9 + 1))))))), (ra_3, .inr (16, [.int (nI pl)])), ((u 4), .inr (13, [.int (md + nI 1), .ref ed_5, .int (nI (c9 + 1))])), (ed_5, .inl (dA 8, (gcp c9 bm), .inr (.inr (.inr (.inr (lsE (updN gP c9 ra_3) (c9 + 1)))))))] := hD
    refine lv_pop hx hb dX13_goOn_29 rfl ?_
    subst hQe
    refine W.widen (k := (1 + 3 * (gcp c9 bm - bm))) (n := (1 + 12 * (gcp c9 bm - bm))) (by first | decide | omega) (by first | decide | omega) ?_
    exact W.vret hx hb hr (fun tz ht hW => ⟨⟨((fun k => [(u 0), ed_1, (u 2), ed_2, (u 4), ed_5].getD k 0), ra_3, [(ra_3, .inr (16, [.int (nI pl)]))]), rfl, trivial, B1_at ht (hP.sub [0, 1, 2, 3, 4, 6, 7, 5] rfl) (hD.sub [0, 1, 2, 3, 4, 6, 7, 5] (by decide) rfl) (Or.inr rfl)⟩, hS.F ht⟩) hS.2.2 dX13_goOn_30
set_option maxHeartbeats 4000000 in
theorem x16_init {l : Launch} {dC : Nat → ClassId} {dI : Nat → Nat → Nat} {dA : Nat → ClassId} {s0 : State} {b0 : Addr} (Z : Z0 l dC dI dA s0 b0) (A : Nat → Prop) (sz : Nat) (hA : ∀ q : Nat, sz ≤ q → A q) {σ : Nat → Nat} {dS : va_G} (Y2 : S2 (dC, dI) dS dA σ s0) (hc of : Nat) : Met l yX16_init (ws_ yX16_init cX16_init 2 none) ({ frames := 5, cells := 2, slots := 5, locals := 300 } : Room) (gP [.ref hc, .ref of] s0 A (fun H => H.size = sz ∧ va_P (dC, dI) vwCl [(hc, .inr (12, [.null, .null]))] H ∧ va_D A [(hc, .inr (12, [.null, .null]))])) (va_Qv (S := Nat × Nat) (fun _ => True) (B1 (dC, dI) A (fun u => [(hc, .inr (12, [.ref of, .ref u.1])), (u.1, .inr (13, [.int (nI 0), .ref u.2, .int (nI 0)])), (u.2, .inl (dA 8, 2, .inr (.inr (.inr (.inr (lsE (fun _ => 0) 0))))))]) (fun _ _ => True)) A) 2 5 A := by
  refine Met.ofW (cc := cX16_init) (maxL := 2) (ret := none) (by decide) rfl ?_
  intro p e s m args below meth c s₁ B hml hv
  obtain ⟨hav, hG, hsz, hP, hD⟩ := hv
  have hx := B.exec
  have hb := B.bytes
  have hr := B.returns
  have hts := atoms_spec (ws := (ws_ yX16_init cX16_init 2 none)) B.pre
  have hts : ∀ w ∈ lw_all, w.before _ s = true := fun w h => hts w (List.mem_cons_of_mem _ h)
  have hown : s.vm.findClass RX16 = some m.cls := findClass_of_methodNamed B.named
  have hlocks := B.notSynchronized
  have hK := hG.K Z
  have hin : meth.name = "<init>" := (name_of_methodNamed B.named B.method).1
  subst hsz
  have hS : va_S A s.heap s.heap [] := va_S.rf
  have hl := lv_entry ([.ref hc, .ref of]) (n := 2) (Nat.le_of_ble_eq_true rfl)
  rw [show entryFrame m args 2 = entryFrame m ([.ref hc, .ref of] : List Value).toArray 2 from by rw [hav], lg_entry_eq]
  generalize (lg_sl ([.ref hc, .ref of]) ++ List.replicate (2 - (lg_sl ([.ref hc, .ref of])).length) Slot.unset).toArray = ls at hl ⊢
  have hl : lv_has ls 2 [(0, .ref hc), (1, .ref of)] := hl
  generalize hQe : MQ below _ _ s _ _ _ = Q
  change W p l e ({ frames := 5, cells := 2, slots := 5, locals := 300 } : Room) s m args below meth c s.heap [] 0 0 Q (F0 m 0 ls [])
  refine lv_aload_n hx hb dX16_init_0 rfl (lv_at hl 0 rfl) ?_
  have hF9 := va_free (wc := []) hD hS (fun q h => hA q h) [] rfl
  refine c_v (wr := [(hc, .inr (12, [.null, .null]))]) (va_runIN (As := []) (rest := []) ⟨hx, hb, hml, hown, hts⟩ (x12_init Z (va_A [] s.heap.size) s.heap.size (fun q h => Or.inr h) hc) ⟨va_cnB 0 hts (lw_meth q1388) rfl rfl rfl (va_Nw.warmM hG.1 (va_Nw.of rfl (Z.2.1 _ q1401))) (hts _ q127) (by decide +kernel) ⟨Nat.le_of_ble_eq_true rfl, Nat.le_of_ble_eq_true rfl⟩, rfl, hts _ q1387⟩ (gP_S hG hS (fun q _ h => hF9 q h) rfl) rfl rfl hl.1 rfl (lv_room (Nat.le_of_ble_eq_true rfl)) dX16_init_1 ⟨by first | decide | omega | (show _ ≤ (2 : Nat); omega), by first | decide | omega | (show _ ≤ (5 : Nat); omega)⟩) hP hD hS hA [] [0] rfl rfl (by decide) (by decide) (fun u9 H locs hq hX hz hk hP hD hS => ?_)
  have hP : va_P (dC, dI) vwCl [(hc, .inr (12, [.null, .null]))] H := hP
  have hD : va_D A [(hc, .inr (12, [.null, .null]))] := hD
  refine lv_aload_n hx hb dX16_init_4 rfl (lv_at hl 0 rfl) ?_
  refine va_new (D := (dC, dI)) (ci := 13) (fs := [.int 0, .null, .int 0]) (C := RJ20) (T := TJ20) (N := 3) hx hb hts in_J20 tyJ20 tyJ20_ok hown (hts _ q1402) (hts _ q1403) (hts _ q134) hK hP hD hS hA rfl (fun j hj => by rcases (show j = 0 ∨ j = 1 ∨ j = 2 by omega) with rfl | rfl | rfl <;> rfl) (by first | decide | omega) (by first | decide | omega) dX16_init_5 (fun nw_1 H hP hD hS => ?_)
  have hP : va_P (dC, dI) vwCl [(hc, .inr (12, [.null, .null])), (nw_1, .inr (13, [.int 0, .null, .int 0]))] H := hP
  have hD : va_D A [(hc, .inr (12, [.null, .null])), (nw_1, .inr (13, [.int 0, .null, .int 0]))] := hD
  refine lv_dup hx hb dX16_init_8 rfl ?_
  refine lv_iconst (v := nI 2) hx hb dX16_init_9 (by decide) ?_
  have hF9 := va_free (wc := [(nw_1, .inr (13, [.int 0, .null, .int 0]))]) hD hS (fun q h => hA q h) [1] rfl
  refine c_v (wr := [(hc, .inr (12, [.null, .null]))]) (va_runI (As := [.int (nI 2)]) (rest := [.ref nw_1, .ref hc]) ⟨hx, hb, hml, hown, hts⟩ (j20_init Z (va_A [(nw_1, .inr (13, [.int 0, .null, .int 0]))] H.size) H.size (fun q h => Or.inr h) Y2 nw_1) (cwI 1 hts (lw_meth q1406) rfl rfl rfl (hts _ q134) (hts _ q1404) (hts _ q1405) rfl (by decide +kernel) ⟨Nat.le_of_ble_eq_true rfl, Nat.le_of_ble_eq_true rfl⟩) (gP_S hG hS (fun q _ h => hF9 q h) ⟨rfl, (hP.sub (ws' := [(nw_1, .inr (13, [.int 0, .null, .int 0]))]) [1] rfl), (hD.sub (ws' := [(nw_1, .inr (13, [.int 0, .null, .int 0]))]) [1] (by decide) rfl).self⟩) rfl rfl hl.1 rfl (lv_room (Nat.le_of_ble_eq_true rfl)) dX16_init_10 ⟨by first | decide | omega | (show _ ≤ (2 : Nat); omega), by first | decide | omega | (show _ ≤ (5 : Nat); omega)⟩) hP hD hS hA [1] [0] rfl rfl (by decide) (by decide) (fun u9 H locs hq hX hz hk hP hD hS => ?_)
  obtain ⟨ed_1, rfl⟩ : ∃ z, z = u9 := ⟨_, rfl⟩
  have hP : va_P (dC, dI) vwCl [(hc, .inr (12, [.null, .null])), (nw_1, .inr (13, [.int (nI 0), .ref ed_1, .int 0])), (ed_1, .inl (dA 8, 2, .inr (.inr (.inr (.inr (fun _ => none))))))] H := hP
  have hD : va_D A [(hc, .inr (12, [.null, .null])), (nw_1, .inr (13, [.int (nI 0), .ref ed_1, .int 0])), (ed_1, .inl (dA 8, 2, .inr (.inr (.inr (.inr (fun _ => none))))))] := hD
  refine va_putF (D := (dC, dI)) (ci := 12) (v := .ref nw_1) (ty := (tyX16 1)) (C := RX16) (T := TX16) (N := 2) hx hb hts in_X16 tyX16 tyX16_ok nmX16 hown hK hP hD hS 0 rfl rfl 1 (by decide) (hts _ q1611) (fun _ h9 => h9) rfl hin rfl (by decide +kernel) rfl rfl (Nat.le_of_ble_eq_true rfl) dX16_init_13 (fun H locs hP hD hS => ?_)
  have hP : va_P (dC, dI) vwCl [(hc, .inr (12, [.null, .ref nw_1])), (nw_1, .inr (13, [.int (nI 0), .ref ed_1, .int 0])), (ed_1, .inl (dA 8, 2, .inr (.inr (.inr (.inr (fun _ => none))))))] H := hP
  have hD : va_D A [(hc, .inr (12, [.null, .ref nw_1])), (nw_1, .inr (13, [.int (nI 0), .ref ed_1, .int 0])), (ed_1, .inl (dA 8, 2, .inr (.inr (.inr (.inr (fun _ => none))))))] := hD
  refine lv_aload_n hx hb dX16_init_16 rfl (lv_at hl 0 rfl) ?_
  refine lv_aload_n hx hb dX16_init_17 rfl (lv_at hl 1 rfl) ?_
  refine va_putF (D := (dC, dI)) (ci := 12) (v := .ref of) (ty := (tyX16 0)) (C := RX16) (T := TX16) (N := 2) hx hb hts in_X16 tyX16 tyX16_ok nmX16 hown hK hP hD hS 0 rfl rfl 0 (by decide) (hts _ q1609) (fun _ h9 => h9) rfl hin rfl (by decide +kernel) rfl rfl (Nat.le_of_ble_eq_true rfl) dX16_init_18 (fun H locs hP hD hS => ?_)
  have hP : va_P (dC, dI) vwCl [(hc, .inr (12, [.ref of, .ref nw_1])), (nw_1, .inr (13, [.int (nI 0), .ref ed_1, .int 0])), (ed_1, .inl (dA 8, 2, .inr (.inr (.inr (.inr (fun _ => none))))))] H := hP
  have hD : va_D A [(hc, .inr (12, [.ref of, .ref nw_1])), (nw_1, .inr (13, [.int (nI 0), .ref ed_1, .int 0])), (ed_1, .inl (dA 8, 2, .inr (.inr (.inr (.inr (fun _ => none))))))] := hD
  have e9 : (fun _ => none : Nat → Option Nat) = (lsE (fun _ => 0) 0) := lsE_0.symm
  rw [e9] at hP hD; clear e9
  subst hQe
  refine W.widen (k := 2) (n := 5) (by first | decide | omega) (by first | decide | omega) ?_
  exact W.vret hx hb hr (fun tz ht hW => ⟨⟨(nw_1, ed_1), rfl, trivial, B1_at ht (hP.sub [0, 1, 2] rfl) (hD.sub [0, 1, 2] (by decide) rfl) trivial⟩, hS.F ht⟩) hS.2.2 dX16_init_21
set_option maxHeartbeats 4000000 in
theorem x16_by {l : Launch} {dC : Nat → ClassId} {dI : Nat → Nat → Nat} {dA : Nat → ClassId} {s0 : State} {b0 : Addr} (Z : Z0 l dC dI dA s0 b0) (A : Nat → Prop) (sz : Nat) (hA : ∀ q : Nat, sz ≤ q → A q) {σ : Nat → Nat} {dS : va_G} (Y2 : S2 (dC, dI) dS dA σ s0) (hc of al ed c9 bm : Nat) (md : Int32) (gO : Nat → Nat) (ao : Nat) (hc9 : c9 ≤ bm) (h2 : 2 ≤ bm) (h3 : bm ≤ 1500) (hnO : ∀ i, i < c9 → ¬ A (gO i)) (hno : ¬ A ao) : Met l yX16_by (ws_ yX16_by cX16_by 2 (some (.object "BladeAlgebra$Changed"))) ({ frames := 8, cells := (gcp c9 bm - bm), slots := (4 * (gcp c9 bm - bm)), locals := 480 } : Room) (gP [.ref hc, .ref ao] s0 A (fun H => H.size = sz ∧ va_P (dC, dI) vwCl [(hc, .inr (12, [.ref of, .ref al])), (al, .inr (13, [.int md, .ref ed, .int (nI c9)])), (ed, .inl (dA 8, bm, .inr (.inr (.inr (.inr (lsE gO c9))))))] H ∧ va_D A [(hc, .inr (12, [.ref of, .ref al])), (al, .inr (13, [.int md, .ref ed, .int (nI c9)])), (ed, .inl (dA 8, bm, .inr (.inr (.inr (.inr (lsE gO c9))))))] ∧ (∀ i, i < c9 → OBJ s0 H (gO i)) ∧ OBJ s0 H ao)) (va_Qr (S := Nat) (fun _ => True) (B1r (dC, dI) A (fun u _ => [(hc, .inr (12, [.ref of, .ref al])), (al, .inr (13, [.int (md + nI 1), .ref u, .int (nI (c9 + 1))])), (u, .inl (dA 8, (gcp c9 bm), .inr (.inr (.inr (.inr (lsE (updN gO c9 ao) (c9 + 1)))))))]) (fun _ q _ => q = hc)) A) (gcp c9 bm - bm) (4 * (gcp c9 bm - bm)) A := by
  refine Met.ofW (cc := cX16_by) (maxL := 2) (ret := (some (.object "BladeAlgebra$Changed"))) (by decide) rfl ?_
  intro p e s m args below meth c s₁ B hml hv
  obtain ⟨hav, hG, hsz, hP, hD, hO, hoO⟩ := hv
  have hx := B.exec
  have hb := B.bytes
  have hr := B.returns
  have hts := atoms_spec (ws := (ws_ yX16_by cX16_by 2 (some (.object "BladeAlgebra$Changed")))) B.pre
  have hts : ∀ w ∈ lw_all, w.before _ s = true := fun w h => hts w (List.mem_cons_of_mem _ h)
  have hown : s.vm.findClass RX16 = some m.cls := findClass_of_methodNamed B.named
  have hlocks := B.notSynchronized
  have hK := hG.K Z
  subst hsz
  have hS : va_S A s.heap s.heap [] := va_S.rf
  have hl := lv_entry ([.ref hc, .ref ao]) (n := 2) (Nat.le_of_ble_eq_true rfl)
  rw [show entryFrame m args 2 = entryFrame m ([.ref hc, .ref ao] : List Value).toArray 2 from by rw [hav], lg_entry_eq]
  generalize (lg_sl ([.ref hc, .ref ao]) ++ List.replicate (2 - (lg_sl ([.ref hc, .ref ao])).length) Slot.unset).toArray = ls at hl ⊢
  have hl : lv_has ls 2 [(0, .ref hc), (1, .ref ao)] := hl
  generalize hQe : MQ below _ _ s _ _ _ = Q
  change W p l e ({ frames := 8, cells := (gcp c9 bm - bm), slots := (4 * (gcp c9 bm - bm)), locals := 480 } : Room) s m args below meth c s.heap [] 0 0 Q (F0 m 0 ls [])
  refine lv_aload_n hx hb dX16_by_0 rfl (lv_at hl 0 rfl) ?_
  refine va_get (D := (dC, dI)) (ci := 12) (v := .ref al) (C := RX16) (T := TX16) (N := 2) hx hb hts in_X16 hown hK hP 0 rfl rfl 1 (by decide) (hts _ q1611) (fun _ h9 => h9) rfl dX16_by_1 ?_
  refine lv_aload_n hx hb dX16_by_4 rfl (lv_at hl 1 rfl) ?_
  have hF9 := va_free (wc := [(al, .inr (13, [.int md, .ref ed, .int (nI c9)])), (ed, .inl (dA 8, bm, .inr (.inr (.inr (.inr (lsE gO c9))))))]) hD hS (fun q h => hA q h) [1, 2] rfl
  refine c_i (wr := [(hc, .inr (12, [.ref of, .ref al]))]) (va_runV (As := [.ref ao]) (rest := []) ⟨hx, hb, hml, hown, hts⟩ (j20_add Z (va_A [(al, .inr (13, [.int md, .ref ed, .int (nI c9)])), (ed, .inl (dA 8, bm, .inr (.inr (.inr (.inr (lsE gO c9))))))] s.heap.size) s.heap.size (fun q h => Or.inr h) Y2 al ed bm md gO c9 ao hc9 (by omega) (by omega) (fun i hi h => hnO i hi (hF9 _ h)) (fun h => hno (hF9 _ h))) (cwV 1 hts (lw_V q1626 q1627 q1628 q134 q1629) rfl rfl rfl (by decide +kernel) ⟨Nat.le_of_ble_eq_true rfl, Nat.le_of_ble_eq_true rfl⟩) (gP_V (va_recv hK hP (ci := 13) (q0 := 1) rfl rfl) hG hS (fun q _ h => hF9 q h) ⟨rfl, (hP.sub (ws' := [(al, .inr (13, [.int md, .ref ed, .int (nI c9)])), (ed, .inl (dA 8, bm, .inr (.inr (.inr (.inr (lsE gO c9))))))]) [1, 2] rfl), (hD.sub (ws' := [(al, .inr (13, [.int md, .ref ed, .int (nI c9)])), (ed, .inl (dA 8, bm, .inr (.inr (.inr (.inr (lsE gO c9))))))]) [1, 2] (by decide) rfl).self, (fun i hi => (hO i hi).to (hS.2.1 _ (hO i hi).lt (hnO i hi))), (hoO.to (hS.2.1 _ hoO.lt hno))⟩) rfl rfl hl.1 rfl (lv_room (Nat.le_of_ble_eq_true rfl)) dX16_by_5 ⟨by first | decide | omega | (show _ ≤ ((gcp c9 bm - bm) : Nat); omega), by first | decide | omega | (show _ ≤ ((4 * (gcp c9 bm - bm)) : Nat); omega)⟩) hP hD hS hA [1, 2] [0] rfl rfl (by decide) (by decide) (fun r9 u9 H locs hq hX hz hk hP hD hS => ?_)
  obtain ⟨r_1, rfl⟩ : ∃ z, z = r9 := ⟨_, rfl⟩
  obtain ⟨ed_1, rfl⟩ : ∃ z, z = u9 := ⟨_, rfl⟩
  have hP : va_P (dC, dI) vwCl [(hc, .inr (12, [.ref of, .ref al])), (al, .inr (13, [.int (md + nI 1), .ref ed_1, .int (nI (c9 + 1))])), (ed_1, .inl (dA 8, (gcp c9 bm), .inr (.inr (.inr (.inr (lsE (updN gO c9 ao) (c9 + 1)))))))] H := hP
  have hD : va_D A [(hc, .inr (12, [.ref of, .ref al])), (al, .inr (13, [.int (md + nI 1), .ref ed_1, .int (nI (c9 + 1))])), (ed_1, .inl (dA 8, (gcp c9 bm), .inr (.inr (.inr (.inr (lsE (updN gO c9 ao) (c9 + 1)))))))] := hD
  refine lv_pop hx hb dX16_by_8 rfl ?_
  refine lv_aload_n hx hb dX16_by_9 rfl (lv_at hl 0 rfl) ?_
  subst hQe
  refine W.widen (k := (gcp c9 bm - bm)) (n := (4 * (gcp c9 bm - bm))) (by first | decide | omega) (by first | decide | omega) ?_
  exact W.aret (v := .ref hc) hx hb hr (Or.inl ⟨_, rfl⟩) (Or.inr ⟨_, rfl⟩) (fun tz ht hW => ⟨⟨ed_1, hc, rfl, trivial, B1r_at ht (hP.sub [0, 1, 2] rfl) (hD.sub [0, 1, 2] (by decide) rfl) rfl⟩, hS.F ht⟩) hS.2.2 dX16_by_10
set_option maxHeartbeats 4000000 in
theorem xj4_14n {l : Launch} {dC : Nat → ClassId} {dI : Nat → Nat → Nat} {dA : Nat → ClassId} {s0 : State} {b0 : Addr} (Z : Z0 l dC dI dA s0 b0) (A : Nat → Prop) (sz : Nat) (hA : ∀ q : Nat, sz ≤ q → A q) {σ : Nat → Nat} (Y : SS (dC, dI) dA σ s0) (ea sa : Nat) : Met l yJ4_init_3 (ws_ yJ4_init_3 cJ4_init_3 5 none) ({ frames := 2, cells := 0, slots := 0, locals := 120 } : Room) (gP [.ref ea, .ref sa, .null, .int (nI 0), .int (nI 0)] s0 A (fun H => H.size = sz ∧ va_P (dC, dI) vwCl [(ea, .inr (8, [.null, .null, .null, .null, .null, .int 0, .int 0, .int 0]))] H ∧ va_D A [(ea, .inr (8, [.null, .null, .null, .null, .null, .int 0, .int 0, .int 0]))])) (va_Qv (S := Unit) (fun _ => True) (B1 (dC, dI) A (fun _ => [(ea, .inr (8, [.null, .null, .null, .ref sa, .null, .int 0, .int 0, .int 0]))]) (fun _ _ => True)) A) 0 0 A := by
  refine Met.ofW (cc := cJ4_init_3) (maxL := 5) (ret := none) (by decide) rfl ?_
  intro p e s m args below meth c s₁ B hml hv
  obtain ⟨hav, hG, hsz, hP, hD⟩ := hv
  have hx := B.exec
  have hb := B.bytes
  have hr := B.returns
  have hts := atoms_spec (ws := (ws_ yJ4_init_3 cJ4_init_3 5 none)) B.pre
  have hts : ∀ w ∈ lw_all, w.before _ s = true := fun w h => hts w (List.mem_cons_of_mem _ h)
  have hown : s.vm.findClass RJ4 = some m.cls := findClass_of_methodNamed B.named
  have hlocks := B.notSynchronized
  have hK := hG.K Z
  have hin : meth.name = "<init>" := (name_of_methodNamed B.named B.method).1
  subst hsz
  have hS : va_S A s.heap s.heap [] := va_S.rf
  have hl := lv_entry ([.ref ea, .ref sa, .null, .int (nI 0), .int (nI 0)]) (n := 5) (Nat.le_of_ble_eq_true rfl)
  rw [show entryFrame m args 5 = entryFrame m ([.ref ea, .ref sa, .null, .int (nI 0), .int (nI 0)] : List Value).toArray 5 from by rw [hav], lg_entry_eq]
  generalize (lg_sl ([.ref ea, .ref sa, .null, .int (nI 0), .int (nI 0)]) ++ List.replicate (5 - (lg_sl ([.ref ea, .ref sa, .null, .int (nI 0), .int (nI 0)])).length) Slot.unset).toArray = ls at hl ⊢
  have hl : lv_has ls 5 [(0, .ref ea), (1, .ref sa), (2, .null), (3, .int (nI 0)), (4, .int (nI 0))] := hl
  generalize hQe : MQ below _ _ s _ _ _ = Q
  change W p l e ({ frames := 2, cells := 0, slots := 0, locals := 120 } : Room) s m args below meth c s.heap [] 0 0 Q (F0 m 0 ls [])
  refine lv_aload_n hx hb dJ4_init_3_0 rfl (lv_at hl 0 rfl) ?_
  refine W.objInit hx hb hown (hts _ q363) (hts _ q151) (hts _ q152) rfl (by rw [hml]; exact hl.1) rfl dJ4_init_3_1 (Nat.le_of_ble_eq_true rfl) (Nat.le_of_ble_eq_true rfl) ?_
  show W p l e ({ frames := 2, cells := 0, slots := 0, locals := 120 } : Room) s m args below meth c s.heap [] 0 0 Q (F0 m 4 ls [])
  refine lv_aload_n hx hb dJ4_init_3_4 rfl (lv_at hl 0 rfl) ?_
  refine lv_aload_n hx hb dJ4_init_3_5 rfl (lv_at hl 0 rfl) ?_
  refine va_put (D := (dC, dI)) (ci := 8) (v := .ref ea) (ty := (tyX14 0)) (C := RX14) (T := TX14) (N := 8) hx hb hts in_X14 tyX14 tyX14_ok nmX14 hown hK hP hD hS 0 rfl rfl 0 (by decide) (hts _ q401) (fun _ h9 => h9) rfl (by decide +kernel) rfl rfl (Nat.le_of_ble_eq_true rfl) dJ4_init_3_6 (fun H locs hP hD hS => ?_)
  have hP : va_P (dC, dI) vwCl [(ea, .inr (8, [.ref ea, .null, .null, .null, .null, .int 0, .int 0, .int 0]))] H := hP
  have hD : va_D A [(ea, .inr (8, [.ref ea, .null, .null, .null, .null, .int 0, .int 0, .int 0]))] := hD
  refine lv_aload_n hx hb dJ4_init_3_9 rfl (lv_at hl 0 rfl) ?_
  rcases (hG.Zq (SS.st Y).1).1 with z9 | ⟨t9, z9⟩
  · refine va_gets (v := .null) hx hb z9 hS hown (hts _ q364) (fun _ h9 => h9) dJ4_init_3_10 ?_
    refine va_put (D := (dC, dI)) (ci := 8) (v := .null) (ty := (tyX14 1)) (C := RX14) (T := TX14) (N := 8) hx hb hts in_X14 tyX14 tyX14_ok nmX14 hown hK hP hD hS 0 rfl rfl 1 (by decide) (hts _ q402) (fun _ h9 => h9) rfl (by decide +kernel) rfl rfl (Nat.le_of_ble_eq_true rfl) dJ4_init_3_13 (fun H locs hP hD hS => ?_)
    have hP : va_P (dC, dI) vwCl [(ea, .inr (8, [.ref ea, .null, .null, .null, .null, .int 0, .int 0, .int 0]))] H := hP
    have hD : va_D A [(ea, .inr (8, [.ref ea, .null, .null, .null, .null, .int 0, .int 0, .int 0]))] := hD
    refine lv_aload_n hx hb dJ4_init_3_16 rfl (lv_at hl 0 rfl) ?_
    rcases (hG.Zq (SS.st Y).2).1 with y9 | ⟨u9, y9⟩
    · refine va_gets (v := .null) hx hb y9 hS hown (hts _ q366) (fun _ h9 => h9) dJ4_init_3_17 ?_
      refine va_put (D := (dC, dI)) (ci := 8) (v := .null) (ty := (tyX14 2)) (C := RX14) (T := TX14) (N := 8) hx hb hts in_X14 tyX14 tyX14_ok nmX14 hown hK hP hD hS 0 rfl rfl 2 (by decide) (hts _ q403) (fun _ h9 => h9) rfl (by decide +kernel) rfl rfl (Nat.le_of_ble_eq_true rfl) dJ4_init_3_20 (fun H locs hP hD hS => ?_)
      have hP : va_P (dC, dI) vwCl [(ea, .inr (8, [.ref ea, .null, .null, .null, .null, .int 0, .int 0, .int 0]))] H := hP
      have hD : va_D A [(ea, .inr (8, [.ref ea, .null, .null, .null, .null, .int 0, .int 0, .int 0]))] := hD
      refine lv_iload hx hb dJ4_init_3_23 (lv_at hl 4 rfl) ?_
      refine lv_if_eq (tgt := 36) hx hb dJ4_init_3_25 (by decide) (fun c_25 => ?_) (fun c_25 => ?_)
      rotate_left
      · exact absurd (by decide) c_25
      refine lv_aload_n hx hb dJ4_init_3_36 rfl (lv_at hl 0 rfl) ?_
      refine lv_null hx hb dJ4_init_3_37 ?_
      refine va_put (D := (dC, dI)) (ci := 8) (v := .null) (ty := (tyX14 1)) (C := RX14) (T := TX14) (N := 8) hx hb hts in_X14 tyX14 tyX14_ok nmX14 hown hK hP hD hS 0 rfl rfl 1 (by decide) (hts _ q402) (fun _ h9 => h9) rfl (by decide +kernel) rfl rfl (Nat.le_of_ble_eq_true rfl) dJ4_init_3_38 (fun H locs hP hD hS => ?_)
      have hP : va_P (dC, dI) vwCl [(ea, .inr (8, [.ref ea, .null, .null, .null, .null, .int 0, .int 0, .int 0]))] H := hP
      have hD : va_D A [(ea, .inr (8, [.ref ea, .null, .null, .null, .null, .int 0, .int 0, .int 0]))] := hD
      refine lv_aload_n hx hb dJ4_init_3_41 rfl (lv_at hl 0 rfl) ?_
      refine lv_aload_n hx hb dJ4_init_3_42 rfl (lv_at hl 1 rfl) ?_
      refine va_put (D := (dC, dI)) (ci := 8) (v := .ref sa) (ty := (tyX14 3)) (C := RX14) (T := TX14) (N := 8) hx hb hts in_X14 tyX14 tyX14_ok nmX14 hown hK hP hD hS 0 rfl rfl 3 (by decide) (hts _ q400) (fun _ h9 => h9) rfl (by decide +kernel) rfl rfl (Nat.le_of_ble_eq_true rfl) dJ4_init_3_43 (fun H locs hP hD hS => ?_)
      have hP : va_P (dC, dI) vwCl [(ea, .inr (8, [.ref ea, .null, .null, .ref sa, .null, .int 0, .int 0, .int 0]))] H := hP
      have hD : va_D A [(ea, .inr (8, [.ref ea, .null, .null, .ref sa, .null, .int 0, .int 0, .int 0]))] := hD
      refine lv_aload_n hx hb dJ4_init_3_46 rfl (lv_at hl 0 rfl) ?_
      refine lv_aload_nN hx hb dJ4_init_3_47 rfl (lv_at hl 2 rfl) ?_
      refine va_put (D := (dC, dI)) (ci := 8) (v := .null) (ty := (tyX14 0)) (C := RX14) (T := TX14) (N := 8) hx hb hts in_X14 tyX14 tyX14_ok nmX14 hown hK hP hD hS 0 rfl rfl 0 (by decide) (hts _ q401) (fun _ h9 => h9) rfl (by decide +kernel) rfl rfl (Nat.le_of_ble_eq_true rfl) dJ4_init_3_48 (fun H locs hP hD hS => ?_)
      have hP : va_P (dC, dI) vwCl [(ea, .inr (8, [.null, .null, .null, .ref sa, .null, .int 0, .int 0, .int 0]))] H := hP
      have hD : va_D A [(ea, .inr (8, [.null, .null, .null, .ref sa, .null, .int 0, .int 0, .int 0]))] := hD
      refine lv_iload_n hx hb dJ4_init_3_51 rfl (lv_at hl 3 rfl) ?_
      refine lv_if_ne (tgt := 60) hx hb dJ4_init_3_52 (by decide) (fun c_52 => ?_) (fun c_52 => ?_)
      · exact absurd (by decide) c_52
      refine lv_aload_n hx hb dJ4_init_3_55 rfl (lv_at hl 0 rfl) ?_
      refine lv_null hx hb dJ4_init_3_56 ?_
      refine va_put (D := (dC, dI)) (ci := 8) (v := .null) (ty := (tyX14 2)) (C := RX14) (T := TX14) (N := 8) hx hb hts in_X14 tyX14 tyX14_ok nmX14 hown hK hP hD hS 0 rfl rfl 2 (by decide) (hts _ q403) (fun _ h9 => h9) rfl (by decide +kernel) rfl rfl (Nat.le_of_ble_eq_true rfl) dJ4_init_3_57 (fun H locs hP hD hS => ?_)
      have hP : va_P (dC, dI) vwCl [(ea, .inr (8, [.null, .null, .null, .ref sa, .null, .int 0, .int 0, .int 0]))] H := hP
      have hD : va_D A [(ea, .inr (8, [.null, .null, .null, .ref sa, .null, .int 0, .int 0, .int 0]))] := hD
      subst hQe
      exact W.vret hx hb hr (fun tz ht hW => ⟨⟨(), rfl, trivial, B1_at ht (hP.sub [0] rfl) (hD.sub [0] (by decide) rfl) trivial⟩, hS.F ht⟩) hS.2.2 dJ4_init_3_60
    · refine va_gets (v := .ref u9) hx hb y9 hS hown (hts _ q366) (fun _ h9 => h9) dJ4_init_3_17 ?_
      refine va_put (D := (dC, dI)) (ci := 8) (v := .ref u9) (ty := (tyX14 2)) (C := RX14) (T := TX14) (N := 8) hx hb hts in_X14 tyX14 tyX14_ok nmX14 hown hK hP hD hS 0 rfl rfl 2 (by decide) (hts _ q403) (fun _ h9 => h9) rfl (by decide +kernel) rfl rfl (Nat.le_of_ble_eq_true rfl) dJ4_init_3_20 (fun H locs hP hD hS => ?_)
      have hP : va_P (dC, dI) vwCl [(ea, .inr (8, [.ref ea, .null, .ref u9, .null, .null, .int 0, .int 0, .int 0]))] H := hP
      have hD : va_D A [(ea, .inr (8, [.ref ea, .null, .ref u9, .null, .null, .int 0, .int 0, .int 0]))] := hD
      refine lv_iload hx hb dJ4_init_3_23 (lv_at hl 4 rfl) ?_
      refine lv_if_eq (tgt := 36) hx hb dJ4_init_3_25 (by decide) (fun c_25 => ?_) (fun c_25 => ?_)
      rotate_left
      · exact absurd (by decide) c_25
      refine lv_aload_n hx hb dJ4_init_3_36 rfl (lv_at hl 0 rfl) ?_
      refine lv_null hx hb dJ4_init_3_37 ?_
      refine va_put (D := (dC, dI)) (ci := 8) (v := .null) (ty := (tyX14 1)) (C := RX14) (T := TX14) (N := 8) hx hb hts in_X14 tyX14 tyX14_ok nmX14 hown hK hP hD hS 0 rfl rfl 1 (by decide) (hts _ q402) (fun _ h9 => h9) rfl (by decide +kernel) rfl rfl (Nat.le_of_ble_eq_true rfl) dJ4_init_3_38 (fun H locs hP hD hS => ?_)
      have hP : va_P (dC, dI) vwCl [(ea, .inr (8, [.ref ea, .null, .ref u9, .null, .null, .int 0, .int 0, .int 0]))] H := hP
      have hD : va_D A [(ea, .inr (8, [.ref ea, .null, .ref u9, .null, .null, .int 0, .int 0, .int 0]))] := hD
      refine lv_aload_n hx hb dJ4_init_3_41 rfl (lv_at hl 0 rfl) ?_
      refine lv_aload_n hx hb dJ4_init_3_42 rfl (lv_at hl 1 rfl) ?_
      refine va_put (D := (dC, dI)) (ci := 8) (v := .ref sa) (ty := (tyX14 3)) (C := RX14) (T := TX14) (N := 8) hx hb hts in_X14 tyX14 tyX14_ok nmX14 hown hK hP hD hS 0 rfl rfl 3 (by decide) (hts _ q400) (fun _ h9 => h9) rfl (by decide +kernel) rfl rfl (Nat.le_of_ble_eq_true rfl) dJ4_init_3_43 (fun H locs hP hD hS => ?_)
      have hP : va_P (dC, dI) vwCl [(ea, .inr (8, [.ref ea, .null, .ref u9, .ref sa, .null, .int 0, .int 0, .int 0]))] H := hP
      have hD : va_D A [(ea, .inr (8, [.ref ea, .null, .ref u9, .ref sa, .null, .int 0, .int 0, .int 0]))] := hD
      refine lv_aload_n hx hb dJ4_init_3_46 rfl (lv_at hl 0 rfl) ?_
      refine lv_aload_nN hx hb dJ4_init_3_47 rfl (lv_at hl 2 rfl) ?_
      refine va_put (D := (dC, dI)) (ci := 8) (v := .null) (ty := (tyX14 0)) (C := RX14) (T := TX14) (N := 8) hx hb hts in_X14 tyX14 tyX14_ok nmX14 hown hK hP hD hS 0 rfl rfl 0 (by decide) (hts _ q401) (fun _ h9 => h9) rfl (by decide +kernel) rfl rfl (Nat.le_of_ble_eq_true rfl) dJ4_init_3_48 (fun H locs hP hD hS => ?_)
      have hP : va_P (dC, dI) vwCl [(ea, .inr (8, [.null, .null, .ref u9, .ref sa, .null, .int 0, .int 0, .int 0]))] H := hP
      have hD : va_D A [(ea, .inr (8, [.null, .null, .ref u9, .ref sa, .null, .int 0, .int 0, .int 0]))] := hD
      refine lv_iload_n hx hb dJ4_init_3_51 rfl (lv_at hl 3 rfl) ?_
      refine lv_if_ne (tgt := 60) hx hb dJ4_init_3_52 (by decide) (fun c_52 => ?_) (fun c_52 => ?_)
      · exact absurd (by decide) c_52
      refine lv_aload_n hx hb dJ4_init_3_55 rfl (lv_at hl 0 rfl) ?_
      refine lv_null hx hb dJ4_init_3_56 ?_
      refine va_put (D := (dC, dI)) (ci := 8) (v := .null) (ty := (tyX14 2)) (C := RX14) (T := TX14) (N := 8) hx hb hts in_X14 tyX14 tyX14_ok nmX14 hown hK hP hD hS 0 rfl rfl 2 (by decide) (hts _ q403) (fun _ h9 => h9) rfl (by decide +kernel) rfl rfl (Nat.le_of_ble_eq_true rfl) dJ4_init_3_57 (fun H locs hP hD hS => ?_)
      have hP : va_P (dC, dI) vwCl [(ea, .inr (8, [.null, .null, .null, .ref sa, .null, .int 0, .int 0, .int 0]))] H := hP
      have hD : va_D A [(ea, .inr (8, [.null, .null, .null, .ref sa, .null, .int 0, .int 0, .int 0]))] := hD
      subst hQe
      exact W.vret hx hb hr (fun tz ht hW => ⟨⟨(), rfl, trivial, B1_at ht (hP.sub [0] rfl) (hD.sub [0] (by decide) rfl) trivial⟩, hS.F ht⟩) hS.2.2 dJ4_init_3_60
  · refine va_gets (v := .ref t9) hx hb z9 hS hown (hts _ q364) (fun _ h9 => h9) dJ4_init_3_10 ?_
    refine va_put (D := (dC, dI)) (ci := 8) (v := .ref t9) (ty := (tyX14 1)) (C := RX14) (T := TX14) (N := 8) hx hb hts in_X14 tyX14 tyX14_ok nmX14 hown hK hP hD hS 0 rfl rfl 1 (by decide) (hts _ q402) (fun _ h9 => h9) rfl (by decide +kernel) rfl rfl (Nat.le_of_ble_eq_true rfl) dJ4_init_3_13 (fun H locs hP hD hS => ?_)
    have hP : va_P (dC, dI) vwCl [(ea, .inr (8, [.ref ea, .ref t9, .null, .null, .null, .int 0, .int 0, .int 0]))] H := hP
    have hD : va_D A [(ea, .inr (8, [.ref ea, .ref t9, .null, .null, .null, .int 0, .int 0, .int 0]))] := hD
    refine lv_aload_n hx hb dJ4_init_3_16 rfl (lv_at hl 0 rfl) ?_
    rcases (hG.Zq (SS.st Y).2).1 with y9 | ⟨u9, y9⟩
    · refine va_gets (v := .null) hx hb y9 hS hown (hts _ q366) (fun _ h9 => h9) dJ4_init_3_17 ?_
      refine va_put (D := (dC, dI)) (ci := 8) (v := .null) (ty := (tyX14 2)) (C := RX14) (T := TX14) (N := 8) hx hb hts in_X14 tyX14 tyX14_ok nmX14 hown hK hP hD hS 0 rfl rfl 2 (by decide) (hts _ q403) (fun _ h9 => h9) rfl (by decide +kernel) rfl rfl (Nat.le_of_ble_eq_true rfl) dJ4_init_3_20 (fun H locs hP hD hS => ?_)
      have hP : va_P (dC, dI) vwCl [(ea, .inr (8, [.ref ea, .ref t9, .null, .null, .null, .int 0, .int 0, .int 0]))] H := hP
      have hD : va_D A [(ea, .inr (8, [.ref ea, .ref t9, .null, .null, .null, .int 0, .int 0, .int 0]))] := hD
      refine lv_iload hx hb dJ4_init_3_23 (lv_at hl 4 rfl) ?_
      refine lv_if_eq (tgt := 36) hx hb dJ4_init_3_25 (by decide) (fun c_25 => ?_) (fun c_25 => ?_)
      rotate_left
      · exact absurd (by decide) c_25
      refine lv_aload_n hx hb dJ4_init_3_36 rfl (lv_at hl 0 rfl) ?_
      refine lv_null hx hb dJ4_init_3_37 ?_
      refine va_put (D := (dC, dI)) (ci := 8) (v := .null) (ty := (tyX14 1)) (C := RX14) (T := TX14) (N := 8) hx hb hts in_X14 tyX14 tyX14_ok nmX14 hown hK hP hD hS 0 rfl rfl 1 (by decide) (hts _ q402) (fun _ h9 => h9) rfl (by decide +kernel) rfl rfl (Nat.le_of_ble_eq_true rfl) dJ4_init_3_38 (fun H locs hP hD hS => ?_)
      have hP : va_P (dC, dI) vwCl [(ea, .inr (8, [.ref ea, .null, .null, .null, .null, .int 0, .int 0, .int 0]))] H := hP
      have hD : va_D A [(ea, .inr (8, [.ref ea, .null, .null, .null, .null, .int 0, .int 0, .int 0]))] := hD
      refine lv_aload_n hx hb dJ4_init_3_41 rfl (lv_at hl 0 rfl) ?_
      refine lv_aload_n hx hb dJ4_init_3_42 rfl (lv_at hl 1 rfl) ?_
      refine va_put (D := (dC, dI)) (ci := 8) (v := .ref sa) (ty := (tyX14 3)) (C := RX14) (T := TX14) (N := 8) hx hb hts in_X14 tyX14 tyX14_ok nmX14 hown hK hP hD hS 0 rfl rfl 3 (by decide) (hts _ q400) (fun _ h9 => h9) rfl (by decide +kernel) rfl rfl (Nat.le_of_ble_eq_true rfl) dJ4_init_3_43 (fun H locs hP hD hS => ?_)
      have hP : va_P (dC, dI) vwCl [(ea, .inr (8, [.ref ea, .null, .null, .ref sa, .null, .int 0, .int 0, .int 0]))] H := hP
      have hD : va_D A [(ea, .inr (8, [.ref ea, .null, .null, .ref sa, .null, .int 0, .int 0, .int 0]))] := hD
      refine lv_aload_n hx hb dJ4_init_3_46 rfl (lv_at hl 0 rfl) ?_
      refine lv_aload_nN hx hb dJ4_init_3_47 rfl (lv_at hl 2 rfl) ?_
      refine va_put (D := (dC, dI)) (ci := 8) (v := .null) (ty := (tyX14 0)) (C := RX14) (T := TX14) (N := 8) hx hb hts in_X14 tyX14 tyX14_ok nmX14 hown hK hP hD hS 0 rfl rfl 0 (by decide) (hts _ q401) (fun _ h9 => h9) rfl (by decide +kernel) rfl rfl (Nat.le_of_ble_eq_true rfl) dJ4_init_3_48 (fun H locs hP hD hS => ?_)
      have hP : va_P (dC, dI) vwCl [(ea, .inr (8, [.null, .null, .null, .ref sa, .null, .int 0, .int 0, .int 0]))] H := hP
      have hD : va_D A [(ea, .inr (8, [.null, .null, .null, .ref sa, .null, .int 0, .int 0, .int 0]))] := hD
      refine lv_iload_n hx hb dJ4_init_3_51 rfl (lv_at hl 3 rfl) ?_
      refine lv_if_ne (tgt := 60) hx hb dJ4_init_3_52 (by decide) (fun c_52 => ?_) (fun c_52 => ?_)
      · exact absurd (by decide) c_52
      refine lv_aload_n hx hb dJ4_init_3_55 rfl (lv_at hl 0 rfl) ?_
      refine lv_null hx hb dJ4_init_3_56 ?_
      refine va_put (D := (dC, dI)) (ci := 8) (v := .null) (ty := (tyX14 2)) (C := RX14) (T := TX14) (N := 8) hx hb hts in_X14 tyX14 tyX14_ok nmX14 hown hK hP hD hS 0 rfl rfl 2 (by decide) (hts _ q403) (fun _ h9 => h9) rfl (by decide +kernel) rfl rfl (Nat.le_of_ble_eq_true rfl) dJ4_init_3_57 (fun H locs hP hD hS => ?_)
      have hP : va_P (dC, dI) vwCl [(ea, .inr (8, [.null, .null, .null, .ref sa, .null, .int 0, .int 0, .int 0]))] H := hP
      have hD : va_D A [(ea, .inr (8, [.null, .null, .null, .ref sa, .null, .int 0, .int 0, .int 0]))] := hD
      subst hQe
      exact W.vret hx hb hr (fun tz ht hW => ⟨⟨(), rfl, trivial, B1_at ht (hP.sub [0] rfl) (hD.sub [0] (by decide) rfl) trivial⟩, hS.F ht⟩) hS.2.2 dJ4_init_3_60
    · refine va_gets (v := .ref u9) hx hb y9 hS hown (hts _ q366) (fun _ h9 => h9) dJ4_init_3_17 ?_
      refine va_put (D := (dC, dI)) (ci := 8) (v := .ref u9) (ty := (tyX14 2)) (C := RX14) (T := TX14) (N := 8) hx hb hts in_X14 tyX14 tyX14_ok nmX14 hown hK hP hD hS 0 rfl rfl 2 (by decide) (hts _ q403) (fun _ h9 => h9) rfl (by decide +kernel) rfl rfl (Nat.le_of_ble_eq_true rfl) dJ4_init_3_20 (fun H locs hP hD hS => ?_)
      have hP : va_P (dC, dI) vwCl [(ea, .inr (8, [.ref ea, .ref t9, .ref u9, .null, .null, .int 0, .int 0, .int 0]))] H := hP
      have hD : va_D A [(ea, .inr (8, [.ref ea, .ref t9, .ref u9, .null, .null, .int 0, .int 0, .int 0]))] := hD
      refine lv_iload hx hb dJ4_init_3_23 (lv_at hl 4 rfl) ?_
      refine lv_if_eq (tgt := 36) hx hb dJ4_init_3_25 (by decide) (fun c_25 => ?_) (fun c_25 => ?_)
      rotate_left
      · exact absurd (by decide) c_25
      refine lv_aload_n hx hb dJ4_init_3_36 rfl (lv_at hl 0 rfl) ?_
      refine lv_null hx hb dJ4_init_3_37 ?_
      refine va_put (D := (dC, dI)) (ci := 8) (v := .null) (ty := (tyX14 1)) (C := RX14) (T := TX14) (N := 8) hx hb hts in_X14 tyX14 tyX14_ok nmX14 hown hK hP hD hS 0 rfl rfl 1 (by decide) (hts _ q402) (fun _ h9 => h9) rfl (by decide +kernel) rfl rfl (Nat.le_of_ble_eq_true rfl) dJ4_init_3_38 (fun H locs hP hD hS => ?_)
      have hP : va_P (dC, dI) vwCl [(ea, .inr (8, [.ref ea, .null, .ref u9, .null, .null, .int 0, .int 0, .int 0]))] H := hP
      have hD : va_D A [(ea, .inr (8, [.ref ea, .null, .ref u9, .null, .null, .int 0, .int 0, .int 0]))] := hD
      refine lv_aload_n hx hb dJ4_init_3_41 rfl (lv_at hl 0 rfl) ?_
      refine lv_aload_n hx hb dJ4_init_3_42 rfl (lv_at hl 1 rfl) ?_
      refine va_put (D := (dC, dI)) (ci := 8) (v := .ref sa) (ty := (tyX14 3)) (C := RX14) (T := TX14) (N := 8) hx hb hts in_X14 tyX14 tyX14_ok nmX14 hown hK hP hD hS 0 rfl rfl 3 (by decide) (hts _ q400) (fun _ h9 => h9) rfl (by decide +kernel) rfl rfl (Nat.le_of_ble_eq_true rfl) dJ4_init_3_43 (fun H locs hP hD hS => ?_)
      have hP : va_P (dC, dI) vwCl [(ea, .inr (8, [.ref ea, .null, .ref u9, .ref sa, .null, .int 0, .int 0, .int 0]))] H := hP
      have hD : va_D A [(ea, .inr (8, [.ref ea, .null, .ref u9, .ref sa, .null, .int 0, .int 0, .int 0]))] := hD
      refine lv_aload_n hx hb dJ4_init_3_46 rfl (lv_at hl 0 rfl) ?_
      refine lv_aload_nN hx hb dJ4_init_3_47 rfl (lv_at hl 2 rfl) ?_
      refine va_put (D := (dC, dI)) (ci := 8) (v := .null) (ty := (tyX14 0)) (C := RX14) (T := TX14) (N := 8) hx hb hts in_X14 tyX14 tyX14_ok nmX14 hown hK hP hD hS 0 rfl rfl 0 (by decide) (hts _ q401) (fun _ h9 => h9) rfl (by decide +kernel) rfl rfl (Nat.le_of_ble_eq_true rfl) dJ4_init_3_48 (fun H locs hP hD hS => ?_)
      have hP : va_P (dC, dI) vwCl [(ea, .inr (8, [.null, .null, .ref u9, .ref sa, .null, .int 0, .int 0, .int 0]))] H := hP
      have hD : va_D A [(ea, .inr (8, [.null, .null, .ref u9, .ref sa, .null, .int 0, .int 0, .int 0]))] := hD
      refine lv_iload_n hx hb dJ4_init_3_51 rfl (lv_at hl 3 rfl) ?_
      refine lv_if_ne (tgt := 60) hx hb dJ4_init_3_52 (by decide) (fun c_52 => ?_) (fun c_52 => ?_)
      · exact absurd (by decide) c_52
      refine lv_aload_n hx hb dJ4_init_3_55 rfl (lv_at hl 0 rfl) ?_
      refine lv_null hx hb dJ4_init_3_56 ?_
      refine va_put (D := (dC, dI)) (ci := 8) (v := .null) (ty := (tyX14 2)) (C := RX14) (T := TX14) (N := 8) hx hb hts in_X14 tyX14 tyX14_ok nmX14 hown hK hP hD hS 0 rfl rfl 2 (by decide) (hts _ q403) (fun _ h9 => h9) rfl (by decide +kernel) rfl rfl (Nat.le_of_ble_eq_true rfl) dJ4_init_3_57 (fun H locs hP hD hS => ?_)
      have hP : va_P (dC, dI) vwCl [(ea, .inr (8, [.null, .null, .null, .ref sa, .null, .int 0, .int 0, .int 0]))] H := hP
      have hD : va_D A [(ea, .inr (8, [.null, .null, .null, .ref sa, .null, .int 0, .int 0, .int 0]))] := hD
      subst hQe
      exact W.vret hx hb hr (fun tz ht hW => ⟨⟨(), rfl, trivial, B1_at ht (hP.sub [0] rfl) (hD.sub [0] (by decide) rfl) trivial⟩, hS.F ht⟩) hS.2.2 dJ4_init_3_60
set_option maxHeartbeats 4000000 in
theorem xj5_14n {l : Launch} {dC : Nat → ClassId} {dI : Nat → Nat → Nat} {dA : Nat → ClassId} {s0 : State} {b0 : Addr} (Z : Z0 l dC dI dA s0 b0) (A : Nat → Prop) (sz : Nat) (hA : ∀ q : Nat, sz ≤ q → A q) {σ : Nat → Nat} (Y : SS (dC, dI) dA σ s0) (ea sa : Nat) : Met l yJ5_init_2 (ws_ yJ5_init_2 cJ5_init_2 5 none) ({ frames := 3, cells := 0, slots := 0, locals := 180 } : Room) (gP [.ref ea, .ref sa, .null, .int (nI 0), .int (nI 0)] s0 A (fun H => H.size = sz ∧ va_P (dC, dI) vwCl [(ea, .inr (8, [.null, .null, .null, .null, .null, .int 0, .int 0, .int 0]))] H ∧ va_D A [(ea, .inr (8, [.null, .null, .null, .null, .null, .int 0, .int 0, .int 0]))])) (va_Qv (S := Unit) (fun _ => True) (B1 (dC, dI) A (fun _ => [(ea, .inr (8, [.null, .null, .null, .ref sa, .null, .int 0, .int 0, .int 0]))]) (fun _ _ => True)) A) 0 0 A := by
  refine Met.ofW (cc := cJ5_init_2) (maxL := 5) (ret := none) (by decide) rfl ?_
  intro p e s m args below meth c s₁ B hml hv
  obtain ⟨hav, hG, hsz, hP, hD⟩ := hv
  have hx := B.exec
  have hb := B.bytes
  have hr := B.returns
  have hts := atoms_spec (ws := (ws_ yJ5_init_2 cJ5_init_2 5 none)) B.pre
  have hts : ∀ w ∈ lw_all, w.before _ s = true := fun w h => hts w (List.mem_cons_of_mem _ h)
  have hown : s.vm.findClass RJ5 = some m.cls := findClass_of_methodNamed B.named
  have hlocks := B.notSynchronized
  have hK := hG.K Z
  have hin : meth.name = "<init>" := (name_of_methodNamed B.named B.method).1
  subst hsz
  have hS : va_S A s.heap s.heap [] := va_S.rf
  have hl := lv_entry ([.ref ea, .ref sa, .null, .int (nI 0), .int (nI 0)]) (n := 5) (Nat.le_of_ble_eq_true rfl)
  rw [show entryFrame m args 5 = entryFrame m ([.ref ea, .ref sa, .null, .int (nI 0), .int (nI 0)] : List Value).toArray 5 from by rw [hav], lg_entry_eq]
  generalize (lg_sl ([.ref ea, .ref sa, .null, .int (nI 0), .int (nI 0)]) ++ List.replicate (5 - (lg_sl ([.ref ea, .ref sa, .null, .int (nI 0), .int (nI 0)])).length) Slot.unset).toArray = ls at hl ⊢
  have hl : lv_has ls 5 [(0, .ref ea), (1, .ref sa), (2, .null), (3, .int (nI 0)), (4, .int (nI 0))] := hl
  generalize hQe : MQ below _ _ s _ _ _ = Q
  change W p l e ({ frames := 3, cells := 0, slots := 0, locals := 180 } : Room) s m args below meth c s.heap [] 0 0 Q (F0 m 0 ls [])
  refine lv_aload_n hx hb dJ5_init_2_0 rfl (lv_at hl 0 rfl) ?_
  refine lv_aload_n hx hb dJ5_init_2_1 rfl (lv_at hl 1 rfl) ?_
  refine lv_aload_nN hx hb dJ5_init_2_2 rfl (lv_at hl 2 rfl) ?_
  refine lv_iload_n hx hb dJ5_init_2_3 rfl (lv_at hl 3 rfl) ?_
  refine lv_iload hx hb dJ5_init_2_4 (lv_at hl 4 rfl) ?_
  have hF9 := va_free (wc := [(ea, .inr (8, [.null, .null, .null, .null, .null, .int 0, .int 0, .int 0]))]) hD hS (fun q h => hA q h) [0] rfl
  refine c_v (wr := []) (va_runI (As := [.ref sa, .null, .int (nI 0), .int (nI 0)]) (rest := []) ⟨hx, hb, hml, hown, hts⟩ (xj4_14n Z (va_A [(ea, .inr (8, [.null, .null, .null, .null, .null, .int 0, .int 0, .int 0]))] s.heap.size) s.heap.size (fun q h => Or.inr h) Y ea sa) (cwI 4 hts (lw_meth q539) rfl rfl rfl (hts _ q108) (hts _ q537) (hts _ q538) rfl (by decide +kernel) ⟨Nat.le_of_ble_eq_true rfl, Nat.le_of_ble_eq_true rfl⟩) (gP_S hG hS (fun q _ h => hF9 q h) ⟨rfl, (hP.sub (ws' := [(ea, .inr (8, [.null, .null, .null, .null, .null, .int 0, .int 0, .int 0]))]) [0] rfl), (hD.sub (ws' := [(ea, .inr (8, [.null, .null, .null, .null, .null, .int 0, .int 0, .int 0]))]) [0] (by decide) rfl).self⟩) rfl rfl hl.1 rfl (lv_room (Nat.le_of_ble_eq_true rfl)) dJ5_init_2_6 ⟨by first | decide | omega | (show _ ≤ (0 : Nat); omega), by first | decide | omega | (show _ ≤ (0 : Nat); omega)⟩) hP hD hS hA [0] [] rfl rfl (by decide) (by decide) (fun u9 H locs hq hX hz hk hP hD hS => ?_)
  have hP : va_P (dC, dI) vwCl [(ea, .inr (8, [.null, .null, .null, .ref sa, .null, .int 0, .int 0, .int 0]))] H := hP
  have hD : va_D A [(ea, .inr (8, [.null, .null, .null, .ref sa, .null, .int 0, .int 0, .int 0]))] := hD
  subst hQe
  exact W.vret hx hb hr (fun tz ht hW => ⟨⟨(), rfl, trivial, B1_at ht (hP.sub [0] rfl) (hD.sub [0] (by decide) rfl) trivial⟩, hS.F ht⟩) hS.2.2 dJ5_init_2_9
set_option maxHeartbeats 4000000 in
theorem x14_14n {l : Launch} {dC : Nat → ClassId} {dI : Nat → Nat → Nat} {dA : Nat → ClassId} {s0 : State} {b0 : Addr} (Z : Z0 l dC dI dA s0 b0) (A : Nat → Prop) (sz : Nat) (hA : ∀ q : Nat, sz ≤ q → A q) {σ : Nat → Nat} (Y : SS (dC, dI) dA σ s0) (ea : Nat) (cd : Int32) (pl : Nat) : Met l yX14_init_2 (ws_ yX14_init_2 cX14_init_2 4 none) ({ frames := 4, cells := 0, slots := 0, locals := 240 } : Room) (gP [.ref ea, .int cd, .int (nI pl), .null] s0 A (fun H => H.size = sz ∧ va_P (dC, dI) vwCl [(ea, .inr (8, [.null, .null, .null, .null, .null, .int 0, .int 0, .int 0]))] H ∧ va_D A [(ea, .inr (8, [.null, .null, .null, .null, .null, .int 0, .int 0, .int 0]))])) (va_Qv (S := Unit) (fun _ => True) (B1 (dC, dI) A (fun _ => [(ea, .inr (8, [.null, .null, .null, .ref (σ 56), .null, .int 0, .int cd, .int (nI pl)]))]) (fun _ _ => True)) A) 0 0 A := by
  refine Met.ofW (cc := cX14_init_2) (maxL := 4) (ret := none) (by decide) rfl ?_
  intro p e s m args below meth c s₁ B hml hv
  obtain ⟨hav, hG, hsz, hP, hD⟩ := hv
  have hx := B.exec
  have hb := B.bytes
  have hr := B.returns
  have hts := atoms_spec (ws := (ws_ yX14_init_2 cX14_init_2 4 none)) B.pre
  have hts : ∀ w ∈ lw_all, w.before _ s = true := fun w h => hts w (List.mem_cons_of_mem _ h)
  have hown : s.vm.findClass RX14 = some m.cls := findClass_of_methodNamed B.named
  have hlocks := B.notSynchronized
  have hK := hG.K Z
  have hin : meth.name = "<init>" := (name_of_methodNamed B.named B.method).1
  subst hsz
  have hS : va_S A s.heap s.heap [] := va_S.rf
  have hl := lv_entry ([.ref ea, .int cd, .int (nI pl), .null]) (n := 4) (Nat.le_of_ble_eq_true rfl)
  rw [show entryFrame m args 4 = entryFrame m ([.ref ea, .int cd, .int (nI pl), .null] : List Value).toArray 4 from by rw [hav], lg_entry_eq]
  generalize (lg_sl ([.ref ea, .int cd, .int (nI pl), .null]) ++ List.replicate (4 - (lg_sl ([.ref ea, .int cd, .int (nI pl), .null])).length) Slot.unset).toArray = ls at hl ⊢
  have hl : lv_has ls 4 [(0, .ref ea), (1, .int cd), (2, .int (nI pl)), (3, .null)] := hl
  generalize hQe : MQ below _ _ s _ _ _ = Q
  change W p l e ({ frames := 4, cells := 0, slots := 0, locals := 240 } : Room) s m args below meth c s.heap [] 0 0 Q (F0 m 0 ls [])
  refine lv_aload_n hx hb dX14_init_2_0 rfl (lv_at hl 0 rfl) ?_
  refine va_ldcS hx hb hown (vk_R.warm hG.1 (SS.st6 Y)) dX14_init_2_1 ?_
  refine lv_aload_nN hx hb dX14_init_2_3 rfl (lv_at hl 3 rfl) ?_
  refine lv_iconst (v := nI 0) hx hb dX14_init_2_4 (by decide) ?_
  refine lv_iconst (v := nI 0) hx hb dX14_init_2_5 (by decide) ?_
  have hF9 := va_free (wc := [(ea, .inr (8, [.null, .null, .null, .null, .null, .int 0, .int 0, .int 0]))]) hD hS (fun q h => hA q h) [0] rfl
  refine c_v (wr := []) (va_runI (As := [.ref (σ 56), .null, .int (nI 0), .int (nI 0)]) (rest := []) ⟨hx, hb, hml, hown, hts⟩ (xj5_14n Z (va_A [(ea, .inr (8, [.null, .null, .null, .null, .null, .int 0, .int 0, .int 0]))] s.heap.size) s.heap.size (fun q h => Or.inr h) Y ea (σ 56)) (cwI 4 hts (lw_meth q536) rfl rfl rfl (hts _ q109) (hts _ q1353) (hts _ q535) rfl (by decide +kernel) ⟨Nat.le_of_ble_eq_true rfl, Nat.le_of_ble_eq_true rfl⟩) (gP_S hG hS (fun q _ h => hF9 q h) ⟨rfl, (hP.sub (ws' := [(ea, .inr (8, [.null, .null, .null, .null, .null, .int 0, .int 0, .int 0]))]) [0] rfl), (hD.sub (ws' := [(ea, .inr (8, [.null, .null, .null, .null, .null, .int 0, .int 0, .int 0]))]) [0] (by decide) rfl).self⟩) rfl rfl hl.1 rfl (lv_room (Nat.le_of_ble_eq_true rfl)) dX14_init_2_6 ⟨by first | decide | omega | (show _ ≤ (0 : Nat); omega), by first | decide | omega | (show _ ≤ (0 : Nat); omega)⟩) hP hD hS hA [0] [] rfl rfl (by decide) (by decide) (fun u9 H locs hq hX hz hk hP hD hS => ?_)
  have hP : va_P (dC, dI) vwCl [(ea, .inr (8, [.null, .null, .null, .ref (σ 56), .null, .int 0, .int 0, .int 0]))] H := hP
  have hD : va_D A [(ea, .inr (8, [.null, .null, .null, .ref (σ 56), .null, .int 0, .int 0, .int 0]))] := hD
  refine lv_aload_n hx hb dX14_init_2_9 rfl (lv_at hl 0 rfl) ?_
  refine lv_iload_n hx hb dX14_init_2_10 rfl (lv_at hl 1 rfl) ?_
  refine va_putF (D := (dC, dI)) (ci := 8) (v := .int cd) (ty := .int) (C := RX14) (T := TX14) (N := 8) hx hb hts in_X14 tyX14 tyX14_ok nmX14 hown hK hP hD hS 0 rfl rfl 6 (by decide) (hts _ q1354) (fun _ h9 => h9) rfl hin rfl (by decide +kernel) rfl rfl (Nat.le_of_ble_eq_true rfl) dX14_init_2_11 (fun H locs hP hD hS => ?_)
  have hP : va_P (dC, dI) vwCl [(ea, .inr (8, [.null, .null, .null, .ref (σ 56), .null, .int 0, .int cd, .int 0]))] H := hP
  have hD : va_D A [(ea, .inr (8, [.null, .null, .null, .ref (σ 56), .null, .int 0, .int cd, .int 0]))] := hD
  refine lv_aload_n hx hb dX14_init_2_14 rfl (lv_at hl 0 rfl) ?_
  refine lv_iload_n hx hb dX14_init_2_15 rfl (lv_at hl 2 rfl) ?_
  refine va_putF (D := (dC, dI)) (ci := 8) (v := .int (nI pl)) (ty := .int) (C := RX14) (T := TX14) (N := 8) hx hb hts in_X14 tyX14 tyX14_ok nmX14 hown hK hP hD hS 0 rfl rfl 7 (by decide) (hts _ q1355) (fun _ h9 => h9) rfl hin rfl (by decide +kernel) rfl rfl (Nat.le_of_ble_eq_true rfl) dX14_init_2_16 (fun H locs hP hD hS => ?_)
  have hP : va_P (dC, dI) vwCl [(ea, .inr (8, [.null, .null, .null, .ref (σ 56), .null, .int 0, .int cd, .int (nI pl)]))] H := hP
  have hD : va_D A [(ea, .inr (8, [.null, .null, .null, .ref (σ 56), .null, .int 0, .int cd, .int (nI pl)]))] := hD
  subst hQe
  exact W.vret hx hb hr (fun tz ht hW => ⟨⟨(), rfl, trivial, B1_at ht (hP.sub [0] rfl) (hD.sub [0] (by decide) rfl) trivial⟩, hS.F ht⟩) hS.2.2 dX14_init_2_19
set_option maxHeartbeats 4000000 in
theorem xj4_14c {l : Launch} {dC : Nat → ClassId} {dI : Nat → Nat → Nat} {dA : Nat → ClassId} {s0 : State} {b0 : Addr} (Z : Z0 l dC dI dA s0 b0) (A : Nat → Prop) (sz : Nat) (hA : ∀ q : Nat, sz ≤ q → A q) {σ : Nat → Nat} (Y : SS (dC, dI) dA σ s0) (ea sa : Nat) (ca : Nat) : Met l yJ4_init_3 (ws_ yJ4_init_3 cJ4_init_3 5 none) ({ frames := 2, cells := 0, slots := 0, locals := 120 } : Room) (gP [.ref ea, .ref sa, .ref ca, .int (nI 0), .int (nI 0)] s0 A (fun H => H.size = sz ∧ va_P (dC, dI) vwCl [(ea, .inr (8, [.null, .null, .null, .null, .null, .int 0, .int 0, .int 0]))] H ∧ va_D A [(ea, .inr (8, [.null, .null, .null, .null, .null, .int 0, .int 0, .int 0]))])) (va_Qv (S := Unit) (fun _ => True) (B1 (dC, dI) A (fun _ => [(ea, .inr (8, [.ref ca, .null, .null, .ref sa, .null, .int 0, .int 0, .int 0]))]) (fun _ _ => True)) A) 0 0 A := by
  refine Met.ofW (cc := cJ4_init_3) (maxL := 5) (ret := none) (by decide) rfl ?_
  intro p e s m args below meth c s₁ B hml hv
  obtain ⟨hav, hG, hsz, hP, hD⟩ := hv
  have hx := B.exec
  have hb := B.bytes
  have hr := B.returns
  have hts := atoms_spec (ws := (ws_ yJ4_init_3 cJ4_init_3 5 none)) B.pre
  have hts : ∀ w ∈ lw_all, w.before _ s = true := fun w h => hts w (List.mem_cons_of_mem _ h)
  have hown : s.vm.findClass RJ4 = some m.cls := findClass_of_methodNamed B.named
  have hlocks := B.notSynchronized
  have hK := hG.K Z
  have hin : meth.name = "<init>" := (name_of_methodNamed B.named B.method).1
  subst hsz
  have hS : va_S A s.heap s.heap [] := va_S.rf
  have hl := lv_entry ([.ref ea, .ref sa, .ref ca, .int (nI 0), .int (nI 0)]) (n := 5) (Nat.le_of_ble_eq_true rfl)
  rw [show entryFrame m args 5 = entryFrame m ([.ref ea, .ref sa, .ref ca, .int (nI 0), .int (nI 0)] : List Value).toArray 5 from by rw [hav], lg_entry_eq]
  generalize (lg_sl ([.ref ea, .ref sa, .ref ca, .int (nI 0), .int (nI 0)]) ++ List.replicate (5 - (lg_sl ([.ref ea, .ref sa, .ref ca, .int (nI 0), .int (nI 0)])).length) Slot.unset).toArray = ls at hl ⊢
  have hl : lv_has ls 5 [(0, .ref ea), (1, .ref sa), (2, .ref ca), (3, .int (nI 0)), (4, .int (nI 0))] := hl
  generalize hQe : MQ below _ _ s _ _ _ = Q
  change W p l e ({ frames := 2, cells := 0, slots := 0, locals := 120 } : Room) s m args below meth c s.heap [] 0 0 Q (F0 m 0 ls [])
  refine lv_aload_n hx hb dJ4_init_3_0 rfl (lv_at hl 0 rfl) ?_
  refine W.objInit hx hb hown (hts _ q363) (hts _ q151) (hts _ q152) rfl (by rw [hml]; exact hl.1) rfl dJ4_init_3_1 (Nat.le_of_ble_eq_true rfl) (Nat.le_of_ble_eq_true rfl) ?_
  show W p l e ({ frames := 2, cells := 0, slots := 0, locals := 120 } : Room) s m args below meth c s.heap [] 0 0 Q (F0 m 4 ls [])
  refine lv_aload_n hx hb dJ4_init_3_4 rfl (lv_at hl 0 rfl) ?_
  refine lv_aload_n hx hb dJ4_init_3_5 rfl (lv_at hl 0 rfl) ?_
  refine va_put (D := (dC, dI)) (ci := 8) (v := .ref ea) (ty := (tyX14 0)) (C := RX14) (T := TX14) (N := 8) hx hb hts in_X14 tyX14 tyX14_ok nmX14 hown hK hP hD hS 0 rfl rfl 0 (by decide) (hts _ q401) (fun _ h9 => h9) rfl (by decide +kernel) rfl rfl (Nat.le_of_ble_eq_true rfl) dJ4_init_3_6 (fun H locs hP hD hS => ?_)
  have hP : va_P (dC, dI) vwCl [(ea, .inr (8, [.ref ea, .null, .null, .null, .null, .int 0, .int 0, .int 0]))] H := hP
  have hD : va_D A [(ea, .inr (8, [.ref ea, .null, .null, .null, .null, .int 0, .int 0, .int 0]))] := hD
  refine lv_aload_n hx hb dJ4_init_3_9 rfl (lv_at hl 0 rfl) ?_
  rcases (hG.Zq (SS.st Y).1).1 with z9 | ⟨t9, z9⟩
  · refine va_gets (v := .null) hx hb z9 hS hown (hts _ q364) (fun _ h9 => h9) dJ4_init_3_10 ?_
    refine va_put (D := (dC, dI)) (ci := 8) (v := .null) (ty := (tyX14 1)) (C := RX14) (T := TX14) (N := 8) hx hb hts in_X14 tyX14 tyX14_ok nmX14 hown hK hP hD hS 0 rfl rfl 1 (by decide) (hts _ q402) (fun _ h9 => h9) rfl (by decide +kernel) rfl rfl (Nat.le_of_ble_eq_true rfl) dJ4_init_3_13 (fun H locs hP hD hS => ?_)
    have hP : va_P (dC, dI) vwCl [(ea, .inr (8, [.ref ea, .null, .null, .null, .null, .int 0, .int 0, .int 0]))] H := hP
    have hD : va_D A [(ea, .inr (8, [.ref ea, .null, .null, .null, .null, .int 0, .int 0, .int 0]))] := hD
    refine lv_aload_n hx hb dJ4_init_3_16 rfl (lv_at hl 0 rfl) ?_
    rcases (hG.Zq (SS.st Y).2).1 with y9 | ⟨u9, y9⟩
    · refine va_gets (v := .null) hx hb y9 hS hown (hts _ q366) (fun _ h9 => h9) dJ4_init_3_17 ?_
      refine va_put (D := (dC, dI)) (ci := 8) (v := .null) (ty := (tyX14 2)) (C := RX14) (T := TX14) (N := 8) hx hb hts in_X14 tyX14 tyX14_ok nmX14 hown hK hP hD hS 0 rfl rfl 2 (by decide) (hts _ q403) (fun _ h9 => h9) rfl (by decide +kernel) rfl rfl (Nat.le_of_ble_eq_true rfl) dJ4_init_3_20 (fun H locs hP hD hS => ?_)
      have hP : va_P (dC, dI) vwCl [(ea, .inr (8, [.ref ea, .null, .null, .null, .null, .int 0, .int 0, .int 0]))] H := hP
      have hD : va_D A [(ea, .inr (8, [.ref ea, .null, .null, .null, .null, .int 0, .int 0, .int 0]))] := hD
      refine lv_iload hx hb dJ4_init_3_23 (lv_at hl 4 rfl) ?_
      refine lv_if_eq (tgt := 36) hx hb dJ4_init_3_25 (by decide) (fun c_25 => ?_) (fun c_25 => ?_)
      rotate_left
      · exact absurd (by decide) c_25
      refine lv_aload_n hx hb dJ4_init_3_36 rfl (lv_at hl 0 rfl) ?_
      refine lv_null hx hb dJ4_init_3_37 ?_
      refine va_put (D := (dC, dI)) (ci := 8) (v := .null) (ty := (tyX14 1)) (C := RX14) (T := TX14) (N := 8) hx hb hts in_X14 tyX14 tyX14_ok nmX14 hown hK hP hD hS 0 rfl rfl 1 (by decide) (hts _ q402) (fun _ h9 => h9) rfl (by decide +kernel) rfl rfl (Nat.le_of_ble_eq_true rfl) dJ4_init_3_38 (fun H locs hP hD hS => ?_)
      have hP : va_P (dC, dI) vwCl [(ea, .inr (8, [.ref ea, .null, .null, .null, .null, .int 0, .int 0, .int 0]))] H := hP
      have hD : va_D A [(ea, .inr (8, [.ref ea, .null, .null, .null, .null, .int 0, .int 0, .int 0]))] := hD
      refine lv_aload_n hx hb dJ4_init_3_41 rfl (lv_at hl 0 rfl) ?_
      refine lv_aload_n hx hb dJ4_init_3_42 rfl (lv_at hl 1 rfl) ?_
      refine va_put (D := (dC, dI)) (ci := 8) (v := .ref sa) (ty := (tyX14 3)) (C := RX14) (T := TX14) (N := 8) hx hb hts in_X14 tyX14 tyX14_ok nmX14 hown hK hP hD hS 0 rfl rfl 3 (by decide) (hts _ q400) (fun _ h9 => h9) rfl (by decide +kernel) rfl rfl (Nat.le_of_ble_eq_true rfl) dJ4_init_3_43 (fun H locs hP hD hS => ?_)
      have hP : va_P (dC, dI) vwCl [(ea, .inr (8, [.ref ea, .null, .null, .ref sa, .null, .int 0, .int 0, .int 0]))] H := hP
      have hD : va_D A [(ea, .inr (8, [.ref ea, .null, .null, .ref sa, .null, .int 0, .int 0, .int 0]))] := hD
      refine lv_aload_n hx hb dJ4_init_3_46 rfl (lv_at hl 0 rfl) ?_
      refine lv_aload_n hx hb dJ4_init_3_47 rfl (lv_at hl 2 rfl) ?_
      refine va_put (D := (dC, dI)) (ci := 8) (v := .ref ca) (ty := (tyX14 0)) (C := RX14) (T := TX14) (N := 8) hx hb hts in_X14 tyX14 tyX14_ok nmX14 hown hK hP hD hS 0 rfl rfl 0 (by decide) (hts _ q401) (fun _ h9 => h9) rfl (by decide +kernel) rfl rfl (Nat.le_of_ble_eq_true rfl) dJ4_init_3_48 (fun H locs hP hD hS => ?_)
      have hP : va_P (dC, dI) vwCl [(ea, .inr (8, [.ref ca, .null, .null, .ref sa, .null, .int 0, .int 0, .int 0]))] H := hP
      have hD : va_D A [(ea, .inr (8, [.ref ca, .null, .null, .ref sa, .null, .int 0, .int 0, .int 0]))] := hD
      refine lv_iload_n hx hb dJ4_init_3_51 rfl (lv_at hl 3 rfl) ?_
      refine lv_if_ne (tgt := 60) hx hb dJ4_init_3_52 (by decide) (fun c_52 => ?_) (fun c_52 => ?_)
      · exact absurd (by decide) c_52
      refine lv_aload_n hx hb dJ4_init_3_55 rfl (lv_at hl 0 rfl) ?_
      refine lv_null hx hb dJ4_init_3_56 ?_
      refine va_put (D := (dC, dI)) (ci := 8) (v := .null) (ty := (tyX14 2)) (C := RX14) (T := TX14) (N := 8) hx hb hts in_X14 tyX14 tyX14_ok nmX14 hown hK hP hD hS 0 rfl rfl 2 (by decide) (hts _ q403) (fun _ h9 => h9) rfl (by decide +kernel) rfl rfl (Nat.le_of_ble_eq_true rfl) dJ4_init_3_57 (fun H locs hP hD hS => ?_)
      have hP : va_P (dC, dI) vwCl [(ea, .inr (8, [.ref ca, .null, .null, .ref sa, .null, .int 0, .int 0, .int 0]))] H := hP
      have hD : va_D A [(ea, .inr (8, [.ref ca, .null, .null, .ref sa, .null, .int 0, .int 0, .int 0]))] := hD
      subst hQe
      exact W.vret hx hb hr (fun tz ht hW => ⟨⟨(), rfl, trivial, B1_at ht (hP.sub [0] rfl) (hD.sub [0] (by decide) rfl) trivial⟩, hS.F ht⟩) hS.2.2 dJ4_init_3_60
    · refine va_gets (v := .ref u9) hx hb y9 hS hown (hts _ q366) (fun _ h9 => h9) dJ4_init_3_17 ?_
      refine va_put (D := (dC, dI)) (ci := 8) (v := .ref u9) (ty := (tyX14 2)) (C := RX14) (T := TX14) (N := 8) hx hb hts in_X14 tyX14 tyX14_ok nmX14 hown hK hP hD hS 0 rfl rfl 2 (by decide) (hts _ q403) (fun _ h9 => h9) rfl (by decide +kernel) rfl rfl (Nat.le_of_ble_eq_true rfl) dJ4_init_3_20 (fun H locs hP hD hS => ?_)
      have hP : va_P (dC, dI) vwCl [(ea, .inr (8, [.ref ea, .null, .ref u9, .null, .null, .int 0, .int 0, .int 0]))] H := hP
      have hD : va_D A [(ea, .inr (8, [.ref ea, .null, .ref u9, .null, .null, .int 0, .int 0, .int 0]))] := hD
      refine lv_iload hx hb dJ4_init_3_23 (lv_at hl 4 rfl) ?_
      refine lv_if_eq (tgt := 36) hx hb dJ4_init_3_25 (by decide) (fun c_25 => ?_) (fun c_25 => ?_)
      rotate_left
      · exact absurd (by decide) c_25
      refine lv_aload_n hx hb dJ4_init_3_36 rfl (lv_at hl 0 rfl) ?_
      refine lv_null hx hb dJ4_init_3_37 ?_
      refine va_put (D := (dC, dI)) (ci := 8) (v := .null) (ty := (tyX14 1)) (C := RX14) (T := TX14) (N := 8) hx hb hts in_X14 tyX14 tyX14_ok nmX14 hown hK hP hD hS 0 rfl rfl 1 (by decide) (hts _ q402) (fun _ h9 => h9) rfl (by decide +kernel) rfl rfl (Nat.le_of_ble_eq_true rfl) dJ4_init_3_38 (fun H locs hP hD hS => ?_)
      have hP : va_P (dC, dI) vwCl [(ea, .inr (8, [.ref ea, .null, .ref u9, .null, .null, .int 0, .int 0, .int 0]))] H := hP
      have hD : va_D A [(ea, .inr (8, [.ref ea, .null, .ref u9, .null, .null, .int 0, .int 0, .int 0]))] := hD
      refine lv_aload_n hx hb dJ4_init_3_41 rfl (lv_at hl 0 rfl) ?_
      refine lv_aload_n hx hb dJ4_init_3_42 rfl (lv_at hl 1 rfl) ?_
      refine va_put (D := (dC, dI)) (ci := 8) (v := .ref sa) (ty := (tyX14 3)) (C := RX14) (T := TX14) (N := 8) hx hb hts in_X14 tyX14 tyX14_ok nmX14 hown hK hP hD hS 0 rfl rfl 3 (by decide) (hts _ q400) (fun _ h9 => h9) rfl (by decide +kernel) rfl rfl (Nat.le_of_ble_eq_true rfl) dJ4_init_3_43 (fun H locs hP hD hS => ?_)
      have hP : va_P (dC, dI) vwCl [(ea, .inr (8, [.ref ea, .null, .ref u9, .ref sa, .null, .int 0, .int 0, .int 0]))] H := hP
      have hD : va_D A [(ea, .inr (8, [.ref ea, .null, .ref u9, .ref sa, .null, .int 0, .int 0, .int 0]))] := hD
      refine lv_aload_n hx hb dJ4_init_3_46 rfl (lv_at hl 0 rfl) ?_
      refine lv_aload_n hx hb dJ4_init_3_47 rfl (lv_at hl 2 rfl) ?_
      refine va_put (D := (dC, dI)) (ci := 8) (v := .ref ca) (ty := (tyX14 0)) (C := RX14) (T := TX14) (N := 8) hx hb hts in_X14 tyX14 tyX14_ok nmX14 hown hK hP hD hS 0 rfl rfl 0 (by decide) (hts _ q401) (fun _ h9 => h9) rfl (by decide +kernel) rfl rfl (Nat.le_of_ble_eq_true rfl) dJ4_init_3_48 (fun H locs hP hD hS => ?_)
      have hP : va_P (dC, dI) vwCl [(ea, .inr (8, [.ref ca, .null, .ref u9, .ref sa, .null, .int 0, .int 0, .int 0]))] H := hP
      have hD : va_D A [(ea, .inr (8, [.ref ca, .null, .ref u9, .ref sa, .null, .int 0, .int 0, .int 0]))] := hD
      refine lv_iload_n hx hb dJ4_init_3_51 rfl (lv_at hl 3 rfl) ?_
      refine lv_if_ne (tgt := 60) hx hb dJ4_init_3_52 (by decide) (fun c_52 => ?_) (fun c_52 => ?_)
      · exact absurd (by decide) c_52
      refine lv_aload_n hx hb dJ4_init_3_55 rfl (lv_at hl 0 rfl) ?_
      refine lv_null hx hb dJ4_init_3_56 ?_
      refine va_put (D := (dC, dI)) (ci := 8) (v := .null) (ty := (tyX14 2)) (C := RX14) (T := TX14) (N := 8) hx hb hts in_X14 tyX14 tyX14_ok nmX14 hown hK hP hD hS 0 rfl rfl 2 (by decide) (hts _ q403) (fun _ h9 => h9) rfl (by decide +kernel) rfl rfl (Nat.le_of_ble_eq_true rfl) dJ4_init_3_57 (fun H locs hP hD hS => ?_)
      have hP : va_P (dC, dI) vwCl [(ea, .inr (8, [.ref ca, .null, .null, .ref sa, .null, .int 0, .int 0, .int 0]))] H := hP
      have hD : va_D A [(ea, .inr (8, [.ref ca, .null, .null, .ref sa, .null, .int 0, .int 0, .int 0]))] := hD
      subst hQe
      exact W.vret hx hb hr (fun tz ht hW => ⟨⟨(), rfl, trivial, B1_at ht (hP.sub [0] rfl) (hD.sub [0] (by decide) rfl) trivial⟩, hS.F ht⟩) hS.2.2 dJ4_init_3_60
  · refine va_gets (v := .ref t9) hx hb z9 hS hown (hts _ q364) (fun _ h9 => h9) dJ4_init_3_10 ?_
    refine va_put (D := (dC, dI)) (ci := 8) (v := .ref t9) (ty := (tyX14 1)) (C := RX14) (T := TX14) (N := 8) hx hb hts in_X14 tyX14 tyX14_ok nmX14 hown hK hP hD hS 0 rfl rfl 1 (by decide) (hts _ q402) (fun _ h9 => h9) rfl (by decide +kernel) rfl rfl (Nat.le_of_ble_eq_true rfl) dJ4_init_3_13 (fun H locs hP hD hS => ?_)
    have hP : va_P (dC, dI) vwCl [(ea, .inr (8, [.ref ea, .ref t9, .null, .null, .null, .int 0, .int 0, .int 0]))] H := hP
    have hD : va_D A [(ea, .inr (8, [.ref ea, .ref t9, .null, .null, .null, .int 0, .int 0, .int 0]))] := hD
    refine lv_aload_n hx hb dJ4_init_3_16 rfl (lv_at hl 0 rfl) ?_
    rcases (hG.Zq (SS.st Y).2).1 with y9 | ⟨u9, y9⟩
    · refine va_gets (v := .null) hx hb y9 hS hown (hts _ q366) (fun _ h9 => h9) dJ4_init_3_17 ?_
      refine va_put (D := (dC, dI)) (ci := 8) (v := .null) (ty := (tyX14 2)) (C := RX14) (T := TX14) (N := 8) hx hb hts in_X14 tyX14 tyX14_ok nmX14 hown hK hP hD hS 0 rfl rfl 2 (by decide) (hts _ q403) (fun _ h9 => h9) rfl (by decide +kernel) rfl rfl (Nat.le_of_ble_eq_true rfl) dJ4_init_3_20 (fun H locs hP hD hS => ?_)
      have hP : va_P (dC, dI) vwCl [(ea, .inr (8, [.ref ea, .ref t9, .null, .null, .null, .int 0, .int 0, .int 0]))] H := hP
      have hD : va_D A [(ea, .inr (8, [.ref ea, .ref t9, .null, .null, .null, .int 0, .int 0, .int 0]))] := hD
      refine lv_iload hx hb dJ4_init_3_23 (lv_at hl 4 rfl) ?_
      refine lv_if_eq (tgt := 36) hx hb dJ4_init_3_25 (by decide) (fun c_25 => ?_) (fun c_25 => ?_)
      rotate_left
      · exact absurd (by decide) c_25
      refine lv_aload_n hx hb dJ4_init_3_36 rfl (lv_at hl 0 rfl) ?_
      refine lv_null hx hb dJ4_init_3_37 ?_
      refine va_put (D := (dC, dI)) (ci := 8) (v := .null) (ty := (tyX14 1)) (C := RX14) (T := TX14) (N := 8) hx hb hts in_X14 tyX14 tyX14_ok nmX14 hown hK hP hD hS 0 rfl rfl 1 (by decide) (hts _ q402) (fun _ h9 => h9) rfl (by decide +kernel) rfl rfl (Nat.le_of_ble_eq_true rfl) dJ4_init_3_38 (fun H locs hP hD hS => ?_)
      have hP : va_P (dC, dI) vwCl [(ea, .inr (8, [.ref ea, .null, .null, .null, .null, .int 0, .int 0, .int 0]))] H := hP
      have hD : va_D A [(ea, .inr (8, [.ref ea, .null, .null, .null, .null, .int 0, .int 0, .int 0]))] := hD
      refine lv_aload_n hx hb dJ4_init_3_41 rfl (lv_at hl 0 rfl) ?_
      refine lv_aload_n hx hb dJ4_init_3_42 rfl (lv_at hl 1 rfl) ?_
      refine va_put (D := (dC, dI)) (ci := 8) (v := .ref sa) (ty := (tyX14 3)) (C := RX14) (T := TX14) (N := 8) hx hb hts in_X14 tyX14 tyX14_ok nmX14 hown hK hP hD hS 0 rfl rfl 3 (by decide) (hts _ q400) (fun _ h9 => h9) rfl (by decide +kernel) rfl rfl (Nat.le_of_ble_eq_true rfl) dJ4_init_3_43 (fun H locs hP hD hS => ?_)
      have hP : va_P (dC, dI) vwCl [(ea, .inr (8, [.ref ea, .null, .null, .ref sa, .null, .int 0, .int 0, .int 0]))] H := hP
      have hD : va_D A [(ea, .inr (8, [.ref ea, .null, .null, .ref sa, .null, .int 0, .int 0, .int 0]))] := hD
      refine lv_aload_n hx hb dJ4_init_3_46 rfl (lv_at hl 0 rfl) ?_
      refine lv_aload_n hx hb dJ4_init_3_47 rfl (lv_at hl 2 rfl) ?_
      refine va_put (D := (dC, dI)) (ci := 8) (v := .ref ca) (ty := (tyX14 0)) (C := RX14) (T := TX14) (N := 8) hx hb hts in_X14 tyX14 tyX14_ok nmX14 hown hK hP hD hS 0 rfl rfl 0 (by decide) (hts _ q401) (fun _ h9 => h9) rfl (by decide +kernel) rfl rfl (Nat.le_of_ble_eq_true rfl) dJ4_init_3_48 (fun H locs hP hD hS => ?_)
      have hP : va_P (dC, dI) vwCl [(ea, .inr (8, [.ref ca, .null, .null, .ref sa, .null, .int 0, .int 0, .int 0]))] H := hP
      have hD : va_D A [(ea, .inr (8, [.ref ca, .null, .null, .ref sa, .null, .int 0, .int 0, .int 0]))] := hD
      refine lv_iload_n hx hb dJ4_init_3_51 rfl (lv_at hl 3 rfl) ?_
      refine lv_if_ne (tgt := 60) hx hb dJ4_init_3_52 (by decide) (fun c_52 => ?_) (fun c_52 => ?_)
      · exact absurd (by decide) c_52
      refine lv_aload_n hx hb dJ4_init_3_55 rfl (lv_at hl 0 rfl) ?_
      refine lv_null hx hb dJ4_init_3_56 ?_
      refine va_put (D := (dC, dI)) (ci := 8) (v := .null) (ty := (tyX14 2)) (C := RX14) (T := TX14) (N := 8) hx hb hts in_X14 tyX14 tyX14_ok nmX14 hown hK hP hD hS 0 rfl rfl 2 (by decide) (hts _ q403) (fun _ h9 => h9) rfl (by decide +kernel) rfl rfl (Nat.le_of_ble_eq_true rfl) dJ4_init_3_57 (fun H locs hP hD hS => ?_)
      have hP : va_P (dC, dI) vwCl [(ea, .inr (8, [.ref ca, .null, .null, .ref sa, .null, .int 0, .int 0, .int 0]))] H := hP
      have hD : va_D A [(ea, .inr (8, [.ref ca, .null, .null, .ref sa, .null, .int 0, .int 0, .int 0]))] := hD
      subst hQe
      exact W.vret hx hb hr (fun tz ht hW => ⟨⟨(), rfl, trivial, B1_at ht (hP.sub [0] rfl) (hD.sub [0] (by decide) rfl) trivial⟩, hS.F ht⟩) hS.2.2 dJ4_init_3_60
    · refine va_gets (v := .ref u9) hx hb y9 hS hown (hts _ q366) (fun _ h9 => h9) dJ4_init_3_17 ?_
      refine va_put (D := (dC, dI)) (ci := 8) (v := .ref u9) (ty := (tyX14 2)) (C := RX14) (T := TX14) (N := 8) hx hb hts in_X14 tyX14 tyX14_ok nmX14 hown hK hP hD hS 0 rfl rfl 2 (by decide) (hts _ q403) (fun _ h9 => h9) rfl (by decide +kernel) rfl rfl (Nat.le_of_ble_eq_true rfl) dJ4_init_3_20 (fun H locs hP hD hS => ?_)
      have hP : va_P (dC, dI) vwCl [(ea, .inr (8, [.ref ea, .ref t9, .ref u9, .null, .null, .int 0, .int 0, .int 0]))] H := hP
      have hD : va_D A [(ea, .inr (8, [.ref ea, .ref t9, .ref u9, .null, .null, .int 0, .int 0, .int 0]))] := hD
      refine lv_iload hx hb dJ4_init_3_23 (lv_at hl 4 rfl) ?_
      refine lv_if_eq (tgt := 36) hx hb dJ4_init_3_25 (by decide) (fun c_25 => ?_) (fun c_25 => ?_)
      rotate_left
      · exact absurd (by decide) c_25
      refine lv_aload_n hx hb dJ4_init_3_36 rfl (lv_at hl 0 rfl) ?_
      refine lv_null hx hb dJ4_init_3_37 ?_
      refine va_put (D := (dC, dI)) (ci := 8) (v := .null) (ty := (tyX14 1)) (C := RX14) (T := TX14) (N := 8) hx hb hts in_X14 tyX14 tyX14_ok nmX14 hown hK hP hD hS 0 rfl rfl 1 (by decide) (hts _ q402) (fun _ h9 => h9) rfl (by decide +kernel) rfl rfl (Nat.le_of_ble_eq_true rfl) dJ4_init_3_38 (fun H locs hP hD hS => ?_)
      have hP : va_P (dC, dI) vwCl [(ea, .inr (8, [.ref ea, .null, .ref u9, .null, .null, .int 0, .int 0, .int 0]))] H := hP
      have hD : va_D A [(ea, .inr (8, [.ref ea, .null, .ref u9, .null, .null, .int 0, .int 0, .int 0]))] := hD
      refine lv_aload_n hx hb dJ4_init_3_41 rfl (lv_at hl 0 rfl) ?_
      refine lv_aload_n hx hb dJ4_init_3_42 rfl (lv_at hl 1 rfl) ?_
      refine va_put (D := (dC, dI)) (ci := 8) (v := .ref sa) (ty := (tyX14 3)) (C := RX14) (T := TX14) (N := 8) hx hb hts in_X14 tyX14 tyX14_ok nmX14 hown hK hP hD hS 0 rfl rfl 3 (by decide) (hts _ q400) (fun _ h9 => h9) rfl (by decide +kernel) rfl rfl (Nat.le_of_ble_eq_true rfl) dJ4_init_3_43 (fun H locs hP hD hS => ?_)
      have hP : va_P (dC, dI) vwCl [(ea, .inr (8, [.ref ea, .null, .ref u9, .ref sa, .null, .int 0, .int 0, .int 0]))] H := hP
      have hD : va_D A [(ea, .inr (8, [.ref ea, .null, .ref u9, .ref sa, .null, .int 0, .int 0, .int 0]))] := hD
      refine lv_aload_n hx hb dJ4_init_3_46 rfl (lv_at hl 0 rfl) ?_
      refine lv_aload_n hx hb dJ4_init_3_47 rfl (lv_at hl 2 rfl) ?_
      refine va_put (D := (dC, dI)) (ci := 8) (v := .ref ca) (ty := (tyX14 0)) (C := RX14) (T := TX14) (N := 8) hx hb hts in_X14 tyX14 tyX14_ok nmX14 hown hK hP hD hS 0 rfl rfl 0 (by decide) (hts _ q401) (fun _ h9 => h9) rfl (by decide +kernel) rfl rfl (Nat.le_of_ble_eq_true rfl) dJ4_init_3_48 (fun H locs hP hD hS => ?_)
      have hP : va_P (dC, dI) vwCl [(ea, .inr (8, [.ref ca, .null, .ref u9, .ref sa, .null, .int 0, .int 0, .int 0]))] H := hP
      have hD : va_D A [(ea, .inr (8, [.ref ca, .null, .ref u9, .ref sa, .null, .int 0, .int 0, .int 0]))] := hD
      refine lv_iload_n hx hb dJ4_init_3_51 rfl (lv_at hl 3 rfl) ?_
      refine lv_if_ne (tgt := 60) hx hb dJ4_init_3_52 (by decide) (fun c_52 => ?_) (fun c_52 => ?_)
      · exact absurd (by decide) c_52
      refine lv_aload_n hx hb dJ4_init_3_55 rfl (lv_at hl 0 rfl) ?_
      refine lv_null hx hb dJ4_init_3_56 ?_
      refine va_put (D := (dC, dI)) (ci := 8) (v := .null) (ty := (tyX14 2)) (C := RX14) (T := TX14) (N := 8) hx hb hts in_X14 tyX14 tyX14_ok nmX14 hown hK hP hD hS 0 rfl rfl 2 (by decide) (hts _ q403) (fun _ h9 => h9) rfl (by decide +kernel) rfl rfl (Nat.le_of_ble_eq_true rfl) dJ4_init_3_57 (fun H locs hP hD hS => ?_)
      have hP : va_P (dC, dI) vwCl [(ea, .inr (8, [.ref ca, .null, .null, .ref sa, .null, .int 0, .int 0, .int 0]))] H := hP
      have hD : va_D A [(ea, .inr (8, [.ref ca, .null, .null, .ref sa, .null, .int 0, .int 0, .int 0]))] := hD
      subst hQe
      exact W.vret hx hb hr (fun tz ht hW => ⟨⟨(), rfl, trivial, B1_at ht (hP.sub [0] rfl) (hD.sub [0] (by decide) rfl) trivial⟩, hS.F ht⟩) hS.2.2 dJ4_init_3_60
set_option maxHeartbeats 4000000 in
theorem xj5_14c {l : Launch} {dC : Nat → ClassId} {dI : Nat → Nat → Nat} {dA : Nat → ClassId} {s0 : State} {b0 : Addr} (Z : Z0 l dC dI dA s0 b0) (A : Nat → Prop) (sz : Nat) (hA : ∀ q : Nat, sz ≤ q → A q) {σ : Nat → Nat} (Y : SS (dC, dI) dA σ s0) (ea sa : Nat) (ca : Nat) : Met l yJ5_init_2 (ws_ yJ5_init_2 cJ5_init_2 5 none) ({ frames := 3, cells := 0, slots := 0, locals := 180 } : Room) (gP [.ref ea, .ref sa, .ref ca, .int (nI 0), .int (nI 0)] s0 A (fun H => H.size = sz ∧ va_P (dC, dI) vwCl [(ea, .inr (8, [.null, .null, .null, .null, .null, .int 0, .int 0, .int 0]))] H ∧ va_D A [(ea, .inr (8, [.null, .null, .null, .null, .null, .int 0, .int 0, .int 0]))])) (va_Qv (S := Unit) (fun _ => True) (B1 (dC, dI) A (fun _ => [(ea, .inr (8, [.ref ca, .null, .null, .ref sa, .null, .int 0, .int 0, .int 0]))]) (fun _ _ => True)) A) 0 0 A := by
  refine Met.ofW (cc := cJ5_init_2) (maxL := 5) (ret := none) (by decide) rfl ?_
  intro p e s m args below meth c s₁ B hml hv
  obtain ⟨hav, hG, hsz, hP, hD⟩ := hv
  have hx := B.exec
  have hb := B.bytes
  have hr := B.returns
  have hts := atoms_spec (ws := (ws_ yJ5_init_2 cJ5_init_2 5 none)) B.pre
  have hts : ∀ w ∈ lw_all, w.before _ s = true := fun w h => hts w (List.mem_cons_of_mem _ h)
  have hown : s.vm.findClass RJ5 = some m.cls := findClass_of_methodNamed B.named
  have hlocks := B.notSynchronized
  have hK := hG.K Z
  have hin : meth.name = "<init>" := (name_of_methodNamed B.named B.method).1
  subst hsz
  have hS : va_S A s.heap s.heap [] := va_S.rf
  have hl := lv_entry ([.ref ea, .ref sa, .ref ca, .int (nI 0), .int (nI 0)]) (n := 5) (Nat.le_of_ble_eq_true rfl)
  rw [show entryFrame m args 5 = entryFrame m ([.ref ea, .ref sa, .ref ca, .int (nI 0), .int (nI 0)] : List Value).toArray 5 from by rw [hav], lg_entry_eq]
  generalize (lg_sl ([.ref ea, .ref sa, .ref ca, .int (nI 0), .int (nI 0)]) ++ List.replicate (5 - (lg_sl ([.ref ea, .ref sa, .ref ca, .int (nI 0), .int (nI 0)])).length) Slot.unset).toArray = ls at hl ⊢
  have hl : lv_has ls 5 [(0, .ref ea), (1, .ref sa), (2, .ref ca), (3, .int (nI 0)), (4, .int (nI 0))] := hl
  generalize hQe : MQ below _ _ s _ _ _ = Q
  change W p l e ({ frames := 3, cells := 0, slots := 0, locals := 180 } : Room) s m args below meth c s.heap [] 0 0 Q (F0 m 0 ls [])
  refine lv_aload_n hx hb dJ5_init_2_0 rfl (lv_at hl 0 rfl) ?_
  refine lv_aload_n hx hb dJ5_init_2_1 rfl (lv_at hl 1 rfl) ?_
  refine lv_aload_n hx hb dJ5_init_2_2 rfl (lv_at hl 2 rfl) ?_
  refine lv_iload_n hx hb dJ5_init_2_3 rfl (lv_at hl 3 rfl) ?_
  refine lv_iload hx hb dJ5_init_2_4 (lv_at hl 4 rfl) ?_
  have hF9 := va_free (wc := [(ea, .inr (8, [.null, .null, .null, .null, .null, .int 0, .int 0, .int 0]))]) hD hS (fun q h => hA q h) [0] rfl
  refine c_v (wr := []) (va_runI (As := [.ref sa, .ref ca, .int (nI 0), .int (nI 0)]) (rest := []) ⟨hx, hb, hml, hown, hts⟩ (xj4_14c Z (va_A [(ea, .inr (8, [.null, .null, .null, .null, .null, .int 0, .int 0, .int 0]))] s.heap.size) s.heap.size (fun q h => Or.inr h) Y ea sa ca) (cwI 4 hts (lw_meth q539) rfl rfl rfl (hts _ q108) (hts _ q537) (hts _ q538) rfl (by decide +kernel) ⟨Nat.le_of_ble_eq_true rfl, Nat.le_of_ble_eq_true rfl⟩) (gP_S hG hS (fun q _ h => hF9 q h) ⟨rfl, (hP.sub (ws' := [(ea, .inr (8, [.null, .null, .null, .null, .null, .int 0, .int 0, .int 0]))]) [0] rfl), (hD.sub (ws' := [(ea, .inr (8, [.null, .null, .null, .null, .null, .int 0, .int 0, .int 0]))]) [0] (by decide) rfl).self⟩) rfl rfl hl.1 rfl (lv_room (Nat.le_of_ble_eq_true rfl)) dJ5_init_2_6 ⟨by first | decide | omega | (show _ ≤ (0 : Nat); omega), by first | decide | omega | (show _ ≤ (0 : Nat); omega)⟩) hP hD hS hA [0] [] rfl rfl (by decide) (by decide) (fun u9 H locs hq hX hz hk hP hD hS => ?_)
  have hP : va_P (dC, dI) vwCl [(ea, .inr (8, [.ref ca, .null, .null, .ref sa, .null, .int 0, .int 0, .int 0]))] H := hP
  have hD : va_D A [(ea, .inr (8, [.ref ca, .null, .null, .ref sa, .null, .int 0, .int 0, .int 0]))] := hD
  subst hQe
  exact W.vret hx hb hr (fun tz ht hW => ⟨⟨(), rfl, trivial, B1_at ht (hP.sub [0] rfl) (hD.sub [0] (by decide) rfl) trivial⟩, hS.F ht⟩) hS.2.2 dJ5_init_2_9
set_option maxHeartbeats 4000000 in
theorem x14_14c {l : Launch} {dC : Nat → ClassId} {dI : Nat → Nat → Nat} {dA : Nat → ClassId} {s0 : State} {b0 : Addr} (Z : Z0 l dC dI dA s0 b0) (A : Nat → Prop) (sz : Nat) (hA : ∀ q : Nat, sz ≤ q → A q) {σ : Nat → Nat} (Y : SS (dC, dI) dA σ s0) (ea : Nat) (cd : Int32) (pl : Nat) (ca : Nat) : Met l yX14_init_2 (ws_ yX14_init_2 cX14_init_2 4 none) ({ frames := 4, cells := 0, slots := 0, locals := 240 } : Room) (gP [.ref ea, .int cd, .int (nI pl), .ref ca] s0 A (fun H => H.size = sz ∧ va_P (dC, dI) vwCl [(ea, .inr (8, [.null, .null, .null, .null, .null, .int 0, .int 0, .int 0]))] H ∧ va_D A [(ea, .inr (8, [.null, .null, .null, .null, .null, .int 0, .int 0, .int 0]))])) (va_Qv (S := Unit) (fun _ => True) (B1 (dC, dI) A (fun _ => [(ea, .inr (8, [.ref ca, .null, .null, .ref (σ 56), .null, .int 0, .int cd, .int (nI pl)]))]) (fun _ _ => True)) A) 0 0 A := by
  refine Met.ofW (cc := cX14_init_2) (maxL := 4) (ret := none) (by decide) rfl ?_
  intro p e s m args below meth c s₁ B hml hv
  obtain ⟨hav, hG, hsz, hP, hD⟩ := hv
  have hx := B.exec
  have hb := B.bytes
  have hr := B.returns
  have hts := atoms_spec (ws := (ws_ yX14_init_2 cX14_init_2 4 none)) B.pre
  have hts : ∀ w ∈ lw_all, w.before _ s = true := fun w h => hts w (List.mem_cons_of_mem _ h)
  have hown : s.vm.findClass RX14 = some m.cls := findClass_of_methodNamed B.named
  have hlocks := B.notSynchronized
  have hK := hG.K Z
  have hin : meth.name = "<init>" := (name_of_methodNamed B.named B.method).1
  subst hsz
  have hS : va_S A s.heap s.heap [] := va_S.rf
  have hl := lv_entry ([.ref ea, .int cd, .int (nI pl), .ref ca]) (n := 4) (Nat.le_of_ble_eq_true rfl)
  rw [show entryFrame m args 4 = entryFrame m ([.ref ea, .int cd, .int (nI pl), .ref ca] : List Value).toArray 4 from by rw [hav], lg_entry_eq]
  generalize (lg_sl ([.ref ea, .int cd, .int (nI pl), .ref ca]) ++ List.replicate (4 - (lg_sl ([.ref ea, .int cd, .int (nI pl), .ref ca])).length) Slot.unset).toArray = ls at hl ⊢
  have hl : lv_has ls 4 [(0, .ref ea), (1, .int cd), (2, .int (nI pl)), (3, .ref ca)] := hl
  generalize hQe : MQ below _ _ s _ _ _ = Q
  change W p l e ({ frames := 4, cells := 0, slots := 0, locals := 240 } : Room) s m args below meth c s.heap [] 0 0 Q (F0 m 0 ls [])
  refine lv_aload_n hx hb dX14_init_2_0 rfl (lv_at hl 0 rfl) ?_
  refine va_ldcS hx hb hown (vk_R.warm hG.1 (SS.st6 Y)) dX14_init_2_1 ?_
  refine lv_aload_n hx hb dX14_init_2_3 rfl (lv_at hl 3 rfl) ?_
  refine lv_iconst (v := nI 0) hx hb dX14_init_2_4 (by decide) ?_
  refine lv_iconst (v := nI 0) hx hb dX14_init_2_5 (by decide) ?_
  have hF9 := va_free (wc := [(ea, .inr (8, [.null, .null, .null, .null, .null, .int 0, .int 0, .int 0]))]) hD hS (fun q h => hA q h) [0] rfl
  refine c_v (wr := []) (va_runI (As := [.ref (σ 56), .ref ca, .int (nI 0), .int (nI 0)]) (rest := []) ⟨hx, hb, hml, hown, hts⟩ (xj5_14c Z (va_A [(ea, .inr (8, [.null, .null, .null, .null, .null, .int 0, .int 0, .int 0]))] s.heap.size) s.heap.size (fun q h => Or.inr h) Y ea (σ 56) ca) (cwI 4 hts (lw_meth q536) rfl rfl rfl (hts _ q109) (hts _ q1353) (hts _ q535) rfl (by decide +kernel) ⟨Nat.le_of_ble_eq_true rfl, Nat.le_of_ble_eq_true rfl⟩) (gP_S hG hS (fun q _ h => hF9 q h) ⟨rfl, (hP.sub (ws' := [(ea, .inr (8, [.null, .null, .null, .null, .null, .int 0, .int 0, .int 0]))]) [0] rfl), (hD.sub (ws' := [(ea, .inr (8, [.null, .null, .null, .null, .null, .int 0, .int 0, .int 0]))]) [0] (by decide) rfl).self⟩) rfl rfl hl.1 rfl (lv_room (Nat.le_of_ble_eq_true rfl)) dX14_init_2_6 ⟨by first | decide | omega | (show _ ≤ (0 : Nat); omega), by first | decide | omega | (show _ ≤ (0 : Nat); omega)⟩) hP hD hS hA [0] [] rfl rfl (by decide) (by decide) (fun u9 H locs hq hX hz hk hP hD hS => ?_)
  have hP : va_P (dC, dI) vwCl [(ea, .inr (8, [.ref ca, .null, .null, .ref (σ 56), .null, .int 0, .int 0, .int 0]))] H := hP
  have hD : va_D A [(ea, .inr (8, [.ref ca, .null, .null, .ref (σ 56), .null, .int 0, .int 0, .int 0]))] := hD
  refine lv_aload_n hx hb dX14_init_2_9 rfl (lv_at hl 0 rfl) ?_
  refine lv_iload_n hx hb dX14_init_2_10 rfl (lv_at hl 1 rfl) ?_
  refine va_putF (D := (dC, dI)) (ci := 8) (v := .int cd) (ty := .int) (C := RX14) (T := TX14) (N := 8) hx hb hts in_X14 tyX14 tyX14_ok nmX14 hown hK hP hD hS 0 rfl rfl 6 (by decide) (hts _ q1354) (fun _ h9 => h9) rfl hin rfl (by decide +kernel) rfl rfl (Nat.le_of_ble_eq_true rfl) dX14_init_2_11 (fun H locs hP hD hS => ?_)
  have hP : va_P (dC, dI) vwCl [(ea, .inr (8, [.ref ca, .null, .null, .ref (σ 56), .null, .int 0, .int cd, .int 0]))] H := hP
  have hD : va_D A [(ea, .inr (8, [.ref ca, .null, .null, .ref (σ 56), .null, .int 0, .int cd, .int 0]))] := hD
  refine lv_aload_n hx hb dX14_init_2_14 rfl (lv_at hl 0 rfl) ?_
  refine lv_iload_n hx hb dX14_init_2_15 rfl (lv_at hl 2 rfl) ?_
  refine va_putF (D := (dC, dI)) (ci := 8) (v := .int (nI pl)) (ty := .int) (C := RX14) (T := TX14) (N := 8) hx hb hts in_X14 tyX14 tyX14_ok nmX14 hown hK hP hD hS 0 rfl rfl 7 (by decide) (hts _ q1355) (fun _ h9 => h9) rfl hin rfl (by decide +kernel) rfl rfl (Nat.le_of_ble_eq_true rfl) dX14_init_2_16 (fun H locs hP hD hS => ?_)
  have hP : va_P (dC, dI) vwCl [(ea, .inr (8, [.ref ca, .null, .null, .ref (σ 56), .null, .int 0, .int cd, .int (nI pl)]))] H := hP
  have hD : va_D A [(ea, .inr (8, [.ref ca, .null, .null, .ref (σ 56), .null, .int 0, .int cd, .int (nI pl)]))] := hD
  subst hQe
  exact W.vret hx hb hr (fun tz ht hW => ⟨⟨(), rfl, trivial, B1_at ht (hP.sub [0] rfl) (hD.sub [0] (by decide) rfl) trivial⟩, hS.F ht⟩) hS.2.2 dX14_init_2_19
set_option maxHeartbeats 4000000 in
theorem x14_2 {l : Launch} {dC : Nat → ClassId} {dI : Nat → Nat → Nat} {dA : Nat → ClassId} {s0 : State} {b0 : Addr} (Z : Z0 l dC dI dA s0 b0) (A : Nat → Prop) (sz : Nat) (hA : ∀ q : Nat, sz ≤ q → A q) {σ : Nat → Nat} (Y : SS (dC, dI) dA σ s0) (ea : Nat) (cd : Int32) (pl : Nat) : Met l yX14_init (ws_ yX14_init cX14_init 3 none) ({ frames := 5, cells := 0, slots := 0, locals := 300 } : Room) (gP [.ref ea, .int cd, .int (nI pl)] s0 A (fun H => H.size = sz ∧ va_P (dC, dI) vwCl [(ea, .inr (8, [.null, .null, .null, .null, .null, .int 0, .int 0, .int 0]))] H ∧ va_D A [(ea, .inr (8, [.null, .null, .null, .null, .null, .int 0, .int 0, .int 0]))])) (va_Qv (S := Unit) (fun _ => True) (B1 (dC, dI) A (fun _ => [(ea, .inr (8, [.null, .null, .null, .ref (σ 56), .null, .int 0, .int cd, .int (nI pl)]))]) (fun _ _ => True)) A) 0 0 A := by
  refine Met.ofW (cc := cX14_init) (maxL := 3) (ret := none) (by decide) rfl ?_
  intro p e s m args below meth c s₁ B hml hv
  obtain ⟨hav, hG, hsz, hP, hD⟩ := hv
  have hx := B.exec
  have hb := B.bytes
  have hr := B.returns
  have hts := atoms_spec (ws := (ws_ yX14_init cX14_init 3 none)) B.pre
  have hts : ∀ w ∈ lw_all, w.before _ s = true := fun w h => hts w (List.mem_cons_of_mem _ h)
  have hown : s.vm.findClass RX14 = some m.cls := findClass_of_methodNamed B.named
  have hlocks := B.notSynchronized
  have hK := hG.K Z
  have hin : meth.name = "<init>" := (name_of_methodNamed B.named B.method).1
  subst hsz
  have hS : va_S A s.heap s.heap [] := va_S.rf
  have hl := lv_entry ([.ref ea, .int cd, .int (nI pl)]) (n := 3) (Nat.le_of_ble_eq_true rfl)
  rw [show entryFrame m args 3 = entryFrame m ([.ref ea, .int cd, .int (nI pl)] : List Value).toArray 3 from by rw [hav], lg_entry_eq]
  generalize (lg_sl ([.ref ea, .int cd, .int (nI pl)]) ++ List.replicate (3 - (lg_sl ([.ref ea, .int cd, .int (nI pl)])).length) Slot.unset).toArray = ls at hl ⊢
  have hl : lv_has ls 3 [(0, .ref ea), (1, .int cd), (2, .int (nI pl))] := hl
  generalize hQe : MQ below _ _ s _ _ _ = Q
  change W p l e ({ frames := 5, cells := 0, slots := 0, locals := 300 } : Room) s m args below meth c s.heap [] 0 0 Q (F0 m 0 ls [])
  refine lv_aload_n hx hb dX14_init_0 rfl (lv_at hl 0 rfl) ?_
  refine lv_iload_n hx hb dX14_init_1 rfl (lv_at hl 1 rfl) ?_
  refine lv_iload_n hx hb dX14_init_2 rfl (lv_at hl 2 rfl) ?_
  refine lv_null hx hb dX14_init_3 ?_
  have hF9 := va_free (wc := [(ea, .inr (8, [.null, .null, .null, .null, .null, .int 0, .int 0, .int 0]))]) hD hS (fun q h => hA q h) [0] rfl
  refine c_v (wr := []) (va_runI (As := [.int cd, .int (nI pl), .null]) (rest := []) ⟨hx, hb, hml, hown, hts⟩ (x14_14n Z (va_A [(ea, .inr (8, [.null, .null, .null, .null, .null, .int 0, .int 0, .int 0]))] s.heap.size) s.heap.size (fun q h => Or.inr h) Y ea cd pl) (cwI 3 hts (lw_meth q1351) rfl rfl rfl (hts _ q129) (hts _ q1349) (hts _ q1350) rfl (by decide +kernel) ⟨Nat.le_of_ble_eq_true rfl, Nat.le_of_ble_eq_true rfl⟩) (gP_S hG hS (fun q _ h => hF9 q h) ⟨rfl, (hP.sub (ws' := [(ea, .inr (8, [.null, .null, .null, .null, .null, .int 0, .int 0, .int 0]))]) [0] rfl), (hD.sub (ws' := [(ea, .inr (8, [.null, .null, .null, .null, .null, .int 0, .int 0, .int 0]))]) [0] (by decide) rfl).self⟩) rfl rfl hl.1 rfl (lv_room (Nat.le_of_ble_eq_true rfl)) dX14_init_4 ⟨by first | decide | omega | (show _ ≤ (0 : Nat); omega), by first | decide | omega | (show _ ≤ (0 : Nat); omega)⟩) hP hD hS hA [0] [] rfl rfl (by decide) (by decide) (fun u9 H locs hq hX hz hk hP hD hS => ?_)
  have hP : va_P (dC, dI) vwCl [(ea, .inr (8, [.null, .null, .null, .ref (σ 56), .null, .int 0, .int cd, .int (nI pl)]))] H := hP
  have hD : va_D A [(ea, .inr (8, [.null, .null, .null, .ref (σ 56), .null, .int 0, .int cd, .int (nI pl)]))] := hD
  subst hQe
  exact W.vret hx hb hr (fun tz ht hW => ⟨⟨(), rfl, trivial, B1_at ht (hP.sub [0] rfl) (hD.sub [0] (by decide) rfl) trivial⟩, hS.F ht⟩) hS.2.2 dX14_init_7
