set_option maxHeartbeats 4000000 in
theorem x1_index {l : Launch} {dC : Nat → ClassId} {dI : Nat → Nat → Nat} {dA : Nat → ClassId} {s0 : State} {b0 : Addr} (Z : Z0 l dC dI dA s0 b0) (A : Nat → Prop) (sz : Nat) (hA : ∀ q : Nat, sz ≤ q → A q) (Yt : ST s0) (sa : Nat) (Ys : vk_R "BladeAlgebra" 5 "there is no such one" sa s0) (g : Bool) : vx_Met l yX1_index (ws_ yX1_index cX1_index 1 none) ({ frames := 6, cells := 1, slots := 6, locals := 360 } : Room) (gP [.int (bI g)] s0 A (fun H => H.size = sz)) (va_Qv (S := Unit) (fun _ => g = true) (B1 (dC, dI) A (fun _ => []) (fun _ _ => True)) A) (vx_X (S := Unit) (fun _ => g = false) (fun _ E _ _ => E = "java/lang/IndexOutOfBoundsException") A) 1 6 A := by
  refine vx_ofW (cc := cX1_index) (maxL := 1) (ret := none) (by decide) rfl ?_
  intro p e s m args below meth c s₁ B hml hnoH hv
  obtain ⟨hav, hG, hsz⟩ := hv
  have hx := B.exec
  have hb := B.bytes
  have hr := B.returns
  have hts := atoms_spec (ws := (ws_ yX1_index cX1_index 1 none)) B.pre
  have hts : ∀ w ∈ lw_all, w.before _ s = true := fun w h => hts w (List.mem_cons_of_mem _ h)
  have hown : s.vm.findClass RX1 = some m.cls := findClass_of_methodNamed B.named
  have hlocks := B.notSynchronized
  have hK := hG.K Z
  subst hsz
  have hS : va_S A s.heap s.heap [] := va_S.rf
  have hP : va_P (dC, dI) vwCl [] s.heap := fun k q h => by simp at h
  have hD : va_D A [] := ⟨fun i j p q h => by simp at h, fun k q h => by simp at h⟩
  have hl := lv_entry ([.int (bI g)]) (n := 1) (Nat.le_of_ble_eq_true rfl)
  rw [show entryFrame m args 1 = entryFrame m ([.int (bI g)] : List Value).toArray 1 from by rw [hav], lg_entry_eq]
  generalize (lg_sl ([.int (bI g)]) ++ List.replicate (1 - (lg_sl ([.int (bI g)])).length) Slot.unset).toArray = ls at hl ⊢
  have hl : lv_has ls 1 [(0, .int (bI g))] := hl
  generalize hQe : vx_MQ below _ _ _ s _ _ _ = Q
  change W p l e ({ frames := 6, cells := 1, slots := 6, locals := 360 } : Room) s m args below meth c s.heap [] 0 0 Q (F0 m 0 ls [])
  refine lv_iload_n hx hb dX1_index_0 rfl (lv_at hl 0 rfl) ?_
  refine lv_if_ne (tgt := 14) hx hb dX1_index_1 (by decide) (fun c_1 => ?_) (fun c_1 => ?_)
  · have hg9 := bI_1 c_1
    subst hQe
    refine vx_ret ?_
    refine W.widen (k := 1) (n := 6) (by first | decide | omega) (by first | decide | omega) ?_
    exact W.vret hx hb hr (fun tz ht hW => ⟨⟨(), rfl, hg9, B1_at ht (hP.sub [] rfl) (hD.sub [] (by decide) rfl) trivial⟩, hS.F ht⟩) hS.2.2 dX1_index_14
  · have hg9 := bI_0 c_1
    subst hQe
    refine vx_throwS (A := A) (own := RX1) (cls := "java/lang/IndexOutOfBoundsException") (text := "there is no such one") (names := ["java/lang/RuntimeException", "java/lang/Exception"]) hx hb Z.2.2.2 hown (by decide +kernel) (by decide +kernel) (hts _ q476) (hts _ q112) (vk_R.warm hG.1 Ys) (hatZ Z hG (by decide +kernel) (by decide +kernel)) (by decide +kernel) (hG.Zq Yt.1) (hG.Zq Yt.2) hS (hl.1.trans hml.symm) dX1_index_4 dX1_index_7 dX1_index_8 dX1_index_10 dX1_index_13 (fun x h => (hnoH x h).elim) ?_ ?_ ?_ ?_ hlocks ?_ hS.2.2 ?_ ?_
    · exact Nat.le_of_ble_eq_true rfl
    · exact Nat.le_of_ble_eq_true rfl
    · exact Nat.le_of_ble_eq_true rfl
    · exact Nat.le_of_ble_eq_true rfl
    · exact fun t9 hv9 hz9 hk9 _ => ⟨(), hg9, rfl, ⟨hz9, fun q h _ => hk9 q h⟩⟩
    · exact Nat.le_of_ble_eq_true rfl
    · exact Nat.le_of_ble_eq_true rfl
set_option maxHeartbeats 4000000 in
theorem x1_argument {l : Launch} {dC : Nat → ClassId} {dI : Nat → Nat → Nat} {dA : Nat → ClassId} {s0 : State} {b0 : Addr} (Z : Z0 l dC dI dA s0 b0) (A : Nat → Prop) (sz : Nat) (hA : ∀ q : Nat, sz ≤ q → A q) (Yt : ST s0) (sa : Nat) (Ys : vk_R "BladeAlgebra" 13 "out of range" sa s0) (g : Bool) : vx_Met l yX1_argument (ws_ yX1_argument cX1_argument 1 none) ({ frames := 6, cells := 1, slots := 6, locals := 360 } : Room) (gP [.int (bI g)] s0 A (fun H => H.size = sz)) (va_Qv (S := Unit) (fun _ => g = true) (B1 (dC, dI) A (fun _ => []) (fun _ _ => True)) A) (vx_X (S := Unit) (fun _ => g = false) (fun _ E _ _ => E = "java/lang/IllegalArgumentException") A) 1 6 A := by
  refine vx_ofW (cc := cX1_argument) (maxL := 1) (ret := none) (by decide) rfl ?_
  intro p e s m args below meth c s₁ B hml hnoH hv
  obtain ⟨hav, hG, hsz⟩ := hv
  have hx := B.exec
  have hb := B.bytes
  have hr := B.returns
  have hts := atoms_spec (ws := (ws_ yX1_argument cX1_argument 1 none)) B.pre
  have hts : ∀ w ∈ lw_all, w.before _ s = true := fun w h => hts w (List.mem_cons_of_mem _ h)
  have hown : s.vm.findClass RX1 = some m.cls := findClass_of_methodNamed B.named
  have hlocks := B.notSynchronized
  have hK := hG.K Z
  subst hsz
  have hS : va_S A s.heap s.heap [] := va_S.rf
  have hP : va_P (dC, dI) vwCl [] s.heap := fun k q h => by simp at h
  have hD : va_D A [] := ⟨fun i j p q h => by simp at h, fun k q h => by simp at h⟩
  have hl := lv_entry ([.int (bI g)]) (n := 1) (Nat.le_of_ble_eq_true rfl)
  rw [show entryFrame m args 1 = entryFrame m ([.int (bI g)] : List Value).toArray 1 from by rw [hav], lg_entry_eq]
  generalize (lg_sl ([.int (bI g)]) ++ List.replicate (1 - (lg_sl ([.int (bI g)])).length) Slot.unset).toArray = ls at hl ⊢
  have hl : lv_has ls 1 [(0, .int (bI g))] := hl
  generalize hQe : vx_MQ below _ _ _ s _ _ _ = Q
  change W p l e ({ frames := 6, cells := 1, slots := 6, locals := 360 } : Room) s m args below meth c s.heap [] 0 0 Q (F0 m 0 ls [])
  refine lv_iload_n hx hb dX1_argument_0 rfl (lv_at hl 0 rfl) ?_
  refine lv_if_ne (tgt := 14) hx hb dX1_argument_1 (by decide) (fun c_1 => ?_) (fun c_1 => ?_)
  · have hg9 := bI_1 c_1
    subst hQe
    refine vx_ret ?_
    refine W.widen (k := 1) (n := 6) (by first | decide | omega) (by first | decide | omega) ?_
    exact W.vret hx hb hr (fun tz ht hW => ⟨⟨(), rfl, hg9, B1_at ht (hP.sub [] rfl) (hD.sub [] (by decide) rfl) trivial⟩, hS.F ht⟩) hS.2.2 dX1_argument_14
  · have hg9 := bI_0 c_1
    subst hQe
    refine vx_throwS (A := A) (own := RX1) (cls := "java/lang/IllegalArgumentException") (text := "out of range") (names := ["java/lang/RuntimeException", "java/lang/Exception"]) hx hb Z.2.2.2 hown (by decide +kernel) (by decide +kernel) (hts _ q338) (hts _ q111) (vk_R.warm hG.1 Ys) (hatZ Z hG (by decide +kernel) (by decide +kernel)) (by decide +kernel) (hG.Zq Yt.1) (hG.Zq Yt.2) hS (hl.1.trans hml.symm) dX1_argument_4 dX1_argument_7 dX1_argument_8 dX1_argument_10 dX1_argument_13 (fun x h => (hnoH x h).elim) ?_ ?_ ?_ ?_ hlocks ?_ hS.2.2 ?_ ?_
    · exact Nat.le_of_ble_eq_true rfl
    · exact Nat.le_of_ble_eq_true rfl
    · exact Nat.le_of_ble_eq_true rfl
    · exact Nat.le_of_ble_eq_true rfl
    · exact fun t9 hv9 hz9 hk9 _ => ⟨(), hg9, rfl, ⟨hz9, fun q h _ => hk9 q h⟩⟩
    · exact Nat.le_of_ble_eq_true rfl
    · exact Nat.le_of_ble_eq_true rfl
set_option maxHeartbeats 4000000 in
theorem x1_possible {l : Launch} {dC : Nat → ClassId} {dI : Nat → Nat → Nat} {dA : Nat → ClassId} {s0 : State} {b0 : Addr} (Z : Z0 l dC dI dA s0 b0) (A : Nat → Prop) (sz : Nat) (hA : ∀ q : Nat, sz ≤ q → A q) (Yt : ST s0) (sa : Nat) (Ys : vk_R "BladeAlgebra" 18 "not possible now" sa s0) (g : Bool) : vx_Met l yX1_possible (ws_ yX1_possible cX1_possible 1 none) ({ frames := 6, cells := 1, slots := 6, locals := 360 } : Room) (gP [.int (bI g)] s0 A (fun H => H.size = sz)) (va_Qv (S := Unit) (fun _ => g = true) (B1 (dC, dI) A (fun _ => []) (fun _ _ => True)) A) (vx_X (S := Unit) (fun _ => g = false) (fun _ E _ _ => E = "java/lang/IllegalStateException") A) 1 6 A := by
  refine vx_ofW (cc := cX1_possible) (maxL := 1) (ret := none) (by decide) rfl ?_
  intro p e s m args below meth c s₁ B hml hnoH hv
  obtain ⟨hav, hG, hsz⟩ := hv
  have hx := B.exec
  have hb := B.bytes
  have hr := B.returns
  have hts := atoms_spec (ws := (ws_ yX1_possible cX1_possible 1 none)) B.pre
  have hts : ∀ w ∈ lw_all, w.before _ s = true := fun w h => hts w (List.mem_cons_of_mem _ h)
  have hown : s.vm.findClass RX1 = some m.cls := findClass_of_methodNamed B.named
  have hlocks := B.notSynchronized
  have hK := hG.K Z
  subst hsz
  have hS : va_S A s.heap s.heap [] := va_S.rf
  have hP : va_P (dC, dI) vwCl [] s.heap := fun k q h => by simp at h
  have hD : va_D A [] := ⟨fun i j p q h => by simp at h, fun k q h => by simp at h⟩
  have hl := lv_entry ([.int (bI g)]) (n := 1) (Nat.le_of_ble_eq_true rfl)
  rw [show entryFrame m args 1 = entryFrame m ([.int (bI g)] : List Value).toArray 1 from by rw [hav], lg_entry_eq]
  generalize (lg_sl ([.int (bI g)]) ++ List.replicate (1 - (lg_sl ([.int (bI g)])).length) Slot.unset).toArray = ls at hl ⊢
  have hl : lv_has ls 1 [(0, .int (bI g))] := hl
  generalize hQe : vx_MQ below _ _ _ s _ _ _ = Q
  change W p l e ({ frames := 6, cells := 1, slots := 6, locals := 360 } : Room) s m args below meth c s.heap [] 0 0 Q (F0 m 0 ls [])
  refine lv_iload_n hx hb dX1_possible_0 rfl (lv_at hl 0 rfl) ?_
  refine lv_if_ne (tgt := 14) hx hb dX1_possible_1 (by decide) (fun c_1 => ?_) (fun c_1 => ?_)
  · have hg9 := bI_1 c_1
    subst hQe
    refine vx_ret ?_
    refine W.widen (k := 1) (n := 6) (by first | decide | omega) (by first | decide | omega) ?_
    exact W.vret hx hb hr (fun tz ht hW => ⟨⟨(), rfl, hg9, B1_at ht (hP.sub [] rfl) (hD.sub [] (by decide) rfl) trivial⟩, hS.F ht⟩) hS.2.2 dX1_possible_14
  · have hg9 := bI_0 c_1
    subst hQe
    refine vx_throwS (A := A) (own := RX1) (cls := "java/lang/IllegalStateException") (text := "not possible now") (names := ["java/lang/RuntimeException", "java/lang/Exception"]) hx hb Z.2.2.2 hown (by decide +kernel) (by decide +kernel) (hts _ q778) (hts _ q119) (vk_R.warm hG.1 Ys) (hatZ Z hG (by decide +kernel) (by decide +kernel)) (by decide +kernel) (hG.Zq Yt.1) (hG.Zq Yt.2) hS (hl.1.trans hml.symm) dX1_possible_4 dX1_possible_7 dX1_possible_8 dX1_possible_10 dX1_possible_13 (fun x h => (hnoH x h).elim) ?_ ?_ ?_ ?_ hlocks ?_ hS.2.2 ?_ ?_
    · exact Nat.le_of_ble_eq_true rfl
    · exact Nat.le_of_ble_eq_true rfl
    · exact Nat.le_of_ble_eq_true rfl
    · exact Nat.le_of_ble_eq_true rfl
    · exact fun t9 hv9 hz9 hk9 _ => ⟨(), hg9, rfl, ⟨hz9, fun q h _ => hk9 q h⟩⟩
    · exact Nat.le_of_ble_eq_true rfl
    · exact Nat.le_of_ble_eq_true rfl
set_option maxHeartbeats 4000000 in
theorem x1_supported {l : Launch} {dC : Nat → ClassId} {dI : Nat → Nat → Nat} {dA : Nat → ClassId} {s0 : State} {b0 : Addr} (Z : Z0 l dC dI dA s0 b0) (A : Nat → Prop) (sz : Nat) (hA : ∀ q : Nat, sz ≤ q → A q) (Yt : ST s0) (sa : Nat) (Ys : vk_R "BladeAlgebra" 23 "not of that kind" sa s0) (g : Bool) : vx_Met l yX1_supported (ws_ yX1_supported cX1_supported 1 none) ({ frames := 6, cells := 1, slots := 6, locals := 360 } : Room) (gP [.int (bI g)] s0 A (fun H => H.size = sz)) (va_Qv (S := Unit) (fun _ => g = true) (B1 (dC, dI) A (fun _ => []) (fun _ _ => True)) A) (vx_X (S := Unit) (fun _ => g = false) (fun _ E _ _ => E = "java/lang/UnsupportedOperationException") A) 1 6 A := by
  refine vx_ofW (cc := cX1_supported) (maxL := 1) (ret := none) (by decide) rfl ?_
  intro p e s m args below meth c s₁ B hml hnoH hv
  obtain ⟨hav, hG, hsz⟩ := hv
  have hx := B.exec
  have hb := B.bytes
  have hr := B.returns
  have hts := atoms_spec (ws := (ws_ yX1_supported cX1_supported 1 none)) B.pre
  have hts : ∀ w ∈ lw_all, w.before _ s = true := fun w h => hts w (List.mem_cons_of_mem _ h)
  have hown : s.vm.findClass RX1 = some m.cls := findClass_of_methodNamed B.named
  have hlocks := B.notSynchronized
  have hK := hG.K Z
  subst hsz
  have hS : va_S A s.heap s.heap [] := va_S.rf
  have hP : va_P (dC, dI) vwCl [] s.heap := fun k q h => by simp at h
  have hD : va_D A [] := ⟨fun i j p q h => by simp at h, fun k q h => by simp at h⟩
  have hl := lv_entry ([.int (bI g)]) (n := 1) (Nat.le_of_ble_eq_true rfl)
  rw [show entryFrame m args 1 = entryFrame m ([.int (bI g)] : List Value).toArray 1 from by rw [hav], lg_entry_eq]
  generalize (lg_sl ([.int (bI g)]) ++ List.replicate (1 - (lg_sl ([.int (bI g)])).length) Slot.unset).toArray = ls at hl ⊢
  have hl : lv_has ls 1 [(0, .int (bI g))] := hl
  generalize hQe : vx_MQ below _ _ _ s _ _ _ = Q
  change W p l e ({ frames := 6, cells := 1, slots := 6, locals := 360 } : Room) s m args below meth c s.heap [] 0 0 Q (F0 m 0 ls [])
  refine lv_iload_n hx hb dX1_supported_0 rfl (lv_at hl 0 rfl) ?_
  refine lv_if_ne (tgt := 14) hx hb dX1_supported_1 (by decide) (fun c_1 => ?_) (fun c_1 => ?_)
  · have hg9 := bI_1 c_1
    subst hQe
    refine vx_ret ?_
    refine W.widen (k := 1) (n := 6) (by first | decide | omega) (by first | decide | omega) ?_
    exact W.vret hx hb hr (fun tz ht hW => ⟨⟨(), rfl, hg9, B1_at ht (hP.sub [] rfl) (hD.sub [] (by decide) rfl) trivial⟩, hS.F ht⟩) hS.2.2 dX1_supported_14
  · have hg9 := bI_0 c_1
    subst hQe
    refine vx_throwS (A := A) (own := RX1) (cls := "java/lang/UnsupportedOperationException") (text := "not of that kind") (names := ["java/lang/RuntimeException", "java/lang/Exception"]) hx hb Z.2.2.2 hown (by decide +kernel) (by decide +kernel) (hts _ q1033) (hts _ q122) (vk_R.warm hG.1 Ys) (hatZ Z hG (by decide +kernel) (by decide +kernel)) (by decide +kernel) (hG.Zq Yt.1) (hG.Zq Yt.2) hS (hl.1.trans hml.symm) dX1_supported_4 dX1_supported_7 dX1_supported_8 dX1_supported_10 dX1_supported_13 (fun x h => (hnoH x h).elim) ?_ ?_ ?_ ?_ hlocks ?_ hS.2.2 ?_ ?_
    · exact Nat.le_of_ble_eq_true rfl
    · exact Nat.le_of_ble_eq_true rfl
    · exact Nat.le_of_ble_eq_true rfl
    · exact Nat.le_of_ble_eq_true rfl
    · exact fun t9 hv9 hz9 hk9 _ => ⟨(), hg9, rfl, ⟨hz9, fun q h _ => hk9 q h⟩⟩
    · exact Nat.le_of_ble_eq_true rfl
    · exact Nat.le_of_ble_eq_true rfl
