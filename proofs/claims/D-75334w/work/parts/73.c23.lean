theorem ss_n {a b c : Int32} (h : ssB a b c = true) : ∃ p q r : Nat, a = nI p ∧ b = nI q ∧ c = nI r ∧ 1 ≤ p + q + r ∧ p + q + r ≤ 5 := by
  unfold ssB at h
  rw [Bool.and_eq_true, Bool.and_eq_true, Bool.and_eq_true] at h
  obtain ⟨⟨⟨h1, h2⟩, h3⟩, h4⟩ := h
  obtain ⟨p, hp, rfl⟩ := inB_nat (by decide) h1
  obtain ⟨q, hq, rfl⟩ := inB_nat (by decide) h2
  obtain ⟨r, hr, rfl⟩ := inB_nat (by decide) h3
  rw [nI_add, nI_add] at h4
  obtain ⟨w, hw, e⟩ := inB_nat (by decide) (inB_lo (by decide) h4)
  have hs : p + q + r = w := nI_inj2 (by omega) (by omega) e
  have hs2 := inB_ge (by omega) (by decide) h4
  exact ⟨p, q, r, rfl, rfl, rfl, by omega, by omega⟩
set_option maxHeartbeats 4000000 in
theorem x1_appendText {l : Launch} {dC : Nat → ClassId} {dI : Nat → Nat → Nat} {dA : Nat → ClassId} {s0 : State} {b0 : Addr} (Z : Z0 l dC dI dA s0 b0) (A : Nat → Prop) (sz : Nat) (hA : ∀ q : Nat, sz ≤ q → A q) {σ : Nat → Nat} (Y : SS (dC, dI) dA σ s0) (xa : Nat → Nat) (tl : Nat) (ec ep : Int32) (fT : Nat → Int32) (x9 : Int32) (hl9 : tl ≤ 200) : vx_Met l yX1_appendText (ws_ yX1_appendText cX1_appendText 3 (some .int)) ({ frames := 8, cells := 1, slots := 6, locals := 480 } : Room) (gP [.ref (xa 0), .int x9] s0 A (fun H => H.size = sz ∧ va_P (dC, dI) vwCl [((xa 0), .inr (3, xFs xa tl ec ep)), ((xa 5), .inl (dA 2, 200, .inl fT))] H ∧ va_D A [((xa 0), .inr (3, xFs xa tl ec ep)), ((xa 5), .inl (dA 2, 200, .inl fT))])) (va_Qi (S := Unit) (fun r _ => tl + 4 ≤ 200 ∧ r = nI (tl + 4)) (B1 (dC, dI) A (fun _ => [((xa 0), .inr (3, xFs xa (tl + 4) ec ep)), ((xa 5), .inl (dA 2, 200, .inl (txA fT tl x9)))]) (fun _ _ => True)) A) (vx_X (S := Unit) (fun _ => True) (fun _ E _ t9 => ((E = "java/lang/IllegalStateException" ∧ ¬ tl + 4 ≤ 200)) ∧ va_P (dC, dI) vwCl [((xa 0), .inr (3, xFs xa tl ec ep)), ((xa 5), .inl (dA 2, 200, .inl fT))] t9.heap) A) 1 6 A := by
  refine vx_ofW (cc := cX1_appendText) (maxL := 3) (ret := (some .int)) (by decide) rfl ?_
  intro p e s m args below meth c s₁ B hml hnoH hv
  obtain ⟨hav, hG, hsz, hP, hD⟩ := hv
  have hx := B.exec
  have hb := B.bytes
  have hr := B.returns
  have hts := atoms_spec (ws := (ws_ yX1_appendText cX1_appendText 3 (some .int))) B.pre
  have hts : ∀ w ∈ lw_all, w.before _ s = true := fun w h => hts w (List.mem_cons_of_mem _ h)
  have hown : s.vm.findClass RX1 = some m.cls := findClass_of_methodNamed B.named
  have hlocks := B.notSynchronized
  have hK := hG.K Z
  subst hsz
  have hS : va_S A s.heap s.heap [] := va_S.rf
  have hl := lv_entry ([.ref (xa 0), .int x9]) (n := 3) (Nat.le_of_ble_eq_true rfl)
  rw [show entryFrame m args 3 = entryFrame m ([.ref (xa 0), .int x9] : List Value).toArray 3 from by rw [hav], lg_entry_eq]
  generalize (lg_sl ([.ref (xa 0), .int x9]) ++ List.replicate (3 - (lg_sl ([.ref (xa 0), .int x9])).length) Slot.unset).toArray = ls at hl ⊢
  have hl : lv_has ls 3 [(0, .ref (xa 0)), (1, .int x9)] := hl
  generalize hQe : vx_MQ below _ _ _ s _ _ _ = Q
  change W p l e ({ frames := 8, cells := 1, slots := 6, locals := 480 } : Room) s m args below meth c s.heap [] 0 0 Q (F0 m 0 ls [])
  refine lv_aload_n hx hb dX1_appendText_0 rfl (lv_at hl 0 rfl) ?_
  refine va_get (D := (dC, dI)) (ci := 3) (v := .int (nI tl)) (C := RX1) (T := TX1) (N := 9) hx hb hts in_X1 hown hK hP 0 rfl rfl 5 (by decide) (hts _ q292) (fun _ h9 => h9) rfl dX1_appendText_1 ?_
  refine lv_iconst (v := nI 4) hx hb dX1_appendText_4 (by decide) ?_
  refine lv_iadd hx hb dX1_appendText_5 ?_
  refine e_i (y := nI (tl + 4)) (nI_add _ _) ?_
  refine lv_sipush (v := nI 200) hx hb dX1_appendText_6 (by decide) ?_
  refine lv_icmp_gt (tgt := 16) hx hb dX1_appendText_9 (by decide) (fun c_9 => ?_) (fun c_9 => ?_)
  · have c_9 : 200 < (tl + 4) := (nI_ltI (a := 200) (b := (tl + 4)) (by omega) (by omega)).mp c_9
    refine lv_iconst (v := nI 0) hx hb dX1_appendText_16 (by decide) ?_
    have hF9 := va_free (wc := []) hD hS (fun q h => hA q h) [] rfl
    refine x_v (wc := []) (wr := [((xa 0), .inr (3, xFs xa tl ec ep)), ((xa 5), .inl (dA 2, 200, .inl fT))]) (vx_runS (As := [.int (nI 0)]) (rest := []) ⟨hx, hb, hml, hown, hts⟩ (x1_possible Z (va_A [] s.heap.size) s.heap.size (fun q h => Or.inr h) (SS.st Y) (σ 52) (SS.st2 Y) false) (va_cwS 1 hts (lw_S q891 q776 q96 q777) rfl rfl rfl (by decide +kernel) ⟨Nat.le_of_ble_eq_true rfl, Nat.le_of_ble_eq_true rfl⟩) (gP_S hG hS (fun q _ h => hF9 q h) rfl) rfl rfl hl.1 rfl (lv_room (Nat.le_of_ble_eq_true rfl)) dX1_appendText_17 ⟨by first | decide | omega | (show _ ≤ (1 : Nat); omega), by first | decide | omega | (show _ ≤ (6 : Nat); omega)⟩) hP hD hS hA [] [0, 1] rfl rfl (by decide) (by decide) (fun E ce q9 u9 t9 H locs ht9 hp9 hb9 hz hP hS h1 h2 h3 => ?_) (fun u9 H locs hq hX hz hk hP hD hS => ?_)
    · have hD := hD.sub (ws' := [((xa 0), .inr (3, xFs xa tl ec ep)), ((xa 5), .inl (dA 2, 200, .inl fT))]) [0, 1] (by decide) rfl
      have hP : va_P (dC, dI) vwCl [((xa 0), .inr (3, xFs xa tl ec ep)), ((xa 5), .inl (dA 2, 200, .inl fT))] H := hP
      have hD : va_D A [((xa 0), .inr (3, xFs xa tl ec ep)), ((xa 5), .inl (dA 2, 200, .inl fT))] := hD
      subst hb9
      subst hQe
      exact vx_out (fun x h => (hnoH x h).elim) hlocks h1 h2 h3 (fun t10 e10 _ => ⟨(), trivial, (⟨⟨rfl, by omega⟩, by rw [e10]; exact hP.sub (ws' := [((xa 0), .inr (3, xFs xa tl ec ep)), ((xa 5), .inl (dA 2, 200, .inl fT))]) [0, 1] rfl⟩ : (_ ∧ _)), hS.F e10⟩) hS.2.2 (by first | decide | omega) (by first | decide | omega)
    exact absurd hq (by decide)
  · have c_9 : ¬ 200 < (tl + 4) := fun h => c_9 ((nI_ltI (a := 200) (b := (tl + 4)) (by omega) (by omega)).mpr h)
    refine lv_iconst (v := nI 1) hx hb dX1_appendText_12 (by decide) ?_
    refine lv_goto (tgt := 17) hx hb dX1_appendText_13 (by decide) ?_
    have hF9 := va_free (wc := []) hD hS (fun q h => hA q h) [] rfl
    refine x_v (wc := []) (wr := [((xa 0), .inr (3, xFs xa tl ec ep)), ((xa 5), .inl (dA 2, 200, .inl fT))]) (vx_runS (As := [.int (nI 1)]) (rest := []) ⟨hx, hb, hml, hown, hts⟩ (x1_possible Z (va_A [] s.heap.size) s.heap.size (fun q h => Or.inr h) (SS.st Y) (σ 52) (SS.st2 Y) true) (va_cwS 1 hts (lw_S q891 q776 q96 q777) rfl rfl rfl (by decide +kernel) ⟨Nat.le_of_ble_eq_true rfl, Nat.le_of_ble_eq_true rfl⟩) (gP_S hG hS (fun q _ h => hF9 q h) rfl) rfl rfl hl.1 rfl (lv_room (Nat.le_of_ble_eq_true rfl)) dX1_appendText_17 ⟨by first | decide | omega | (show _ ≤ (1 : Nat); omega), by first | decide | omega | (show _ ≤ (6 : Nat); omega)⟩) hP hD hS hA [] [0, 1] rfl rfl (by decide) (by decide) (fun E ce q9 u9 t9 H locs ht9 hp9 hb9 hz hP hS h1 h2 h3 => ?_) (fun u9 H locs hq hX hz hk hP hD hS => ?_)
    · have hD := hD.sub (ws' := [((xa 0), .inr (3, xFs xa tl ec ep)), ((xa 5), .inl (dA 2, 200, .inl fT))]) [0, 1] (by decide) rfl
      have hP : va_P (dC, dI) vwCl [((xa 0), .inr (3, xFs xa tl ec ep)), ((xa 5), .inl (dA 2, 200, .inl fT))] H := hP
      have hD : va_D A [((xa 0), .inr (3, xFs xa tl ec ep)), ((xa 5), .inl (dA 2, 200, .inl fT))] := hD
      exact absurd hp9 (by decide)
    have hg17 : true = true := hq
    clear hq
    have hP : va_P (dC, dI) vwCl [((xa 0), .inr (3, xFs xa tl ec ep)), ((xa 5), .inl (dA 2, 200, .inl fT))] H := hP
    have hD : va_D A [((xa 0), .inr (3, xFs xa tl ec ep)), ((xa 5), .inl (dA 2, 200, .inl fT))] := hD
    refine lv_bipush (v := nI 24) hx hb dX1_appendText_20 (by decide) ?_
    refine lv_istore_n (lv' := [(2, .int (nI 24)), (0, .ref (xa 0)), (1, .int x9)]) hx hb dX1_appendText_22 rfl hl (by decide) rfl (fun ls hl => ?_)
    refine lv_iload_n hx hb dX1_appendText_23 rfl (lv_at hl 0 rfl) ?_
    refine lv_if_lt (tgt := 56) hx hb dX1_appendText_24 (by decide) (fun c_24 => ?_) (fun c_24 => ?_)
    · exact absurd c_24 (by decide)
    refine lv_aload_n hx hb dX1_appendText_27 rfl (lv_at hl 1 rfl) ?_
    refine va_get (D := (dC, dI)) (ci := 3) (v := .ref (xa 5)) (C := RX1) (T := TX1) (N := 9) hx hb hts in_X1 hown hK hP 0 rfl rfl 4 (by decide) (hts _ q290) (fun _ h9 => h9) rfl dX1_appendText_28 ?_
    refine lv_aload_n hx hb dX1_appendText_31 rfl (lv_at hl 1 rfl) ?_
    refine va_get (D := (dC, dI)) (ci := 3) (v := .int (nI tl)) (C := RX1) (T := TX1) (N := 9) hx hb hts in_X1 hown hK hP 0 rfl rfl 5 (by decide) (hts _ q292) (fun _ h9 => h9) rfl dX1_appendText_32 ?_
    refine lv_iload_n hx hb dX1_appendText_35 rfl (lv_at hl 2 rfl) ?_
    refine lv_iload_n hx hb dX1_appendText_36 rfl (lv_at hl 0 rfl) ?_
    refine lv_ishr hx hb dX1_appendText_37 ?_
    refine lv_i2b (v := (x9 >>> ((nI 24) &&& 31)).toInt8.toInt32) hx hb dX1_appendText_38 rfl ?_
    refine a_bast hx hb hK hP hD hS 1 2 rfl rfl (by omega) (by omega) dX1_appendText_39 (fun H locs hP hD hS => ?_)
    have hP : va_P (dC, dI) vwCl [((xa 0), .inr (3, xFs xa tl ec ep)), ((xa 5), .inl (dA 2, 200, .inl (upd fT tl (vp_nar .byte ((x9 >>> ((nI 24) &&& 31)).toInt8.toInt32)))))] H := hP
    have hD : va_D A [((xa 0), .inr (3, xFs xa tl ec ep)), ((xa 5), .inl (dA 2, 200, .inl (upd fT tl (vp_nar .byte ((x9 >>> ((nI 24) &&& 31)).toInt8.toInt32)))))] := hD
    have e9 : (upd fT tl (vp_nar .byte ((x9 >>> ((nI 24) &&& 31)).toInt8.toInt32)) : Nat → Int32) = (upd fT tl (byV x9 24)) := (by rw [pk_vb]; rfl)
    rw [e9] at hP hD; clear e9
    refine lv_aload_n hx hb dX1_appendText_40 rfl (lv_at hl 1 rfl) ?_
    refine lv_dup hx hb dX1_appendText_41 rfl ?_
    refine va_get (D := (dC, dI)) (ci := 3) (v := .int (nI tl)) (C := RX1) (T := TX1) (N := 9) hx hb hts in_X1 hown hK hP 0 rfl rfl 5 (by decide) (hts _ q292) (fun _ h9 => h9) rfl dX1_appendText_42 ?_
    refine lv_iconst (v := nI 1) hx hb dX1_appendText_45 (by decide) ?_
    refine lv_iadd hx hb dX1_appendText_46 ?_
    refine e_i (y := nI (tl + 1)) (nI_add _ _) ?_
    refine va_put (D := (dC, dI)) (ci := 3) (v := .int (nI (tl + 1))) (ty := .int) (C := RX1) (T := TX1) (N := 9) hx hb hts in_X1 tyX1 tyX1_ok nmX1 hown hK hP hD hS 0 rfl rfl 5 (by decide) (hts _ q292) (fun _ h9 => h9) rfl (by decide +kernel) rfl rfl (Nat.le_of_ble_eq_true rfl) dX1_appendText_47 (fun H locs hP hD hS => ?_)
    have hP : va_P (dC, dI) vwCl [((xa 0), .inr (3, xFs xa (tl + 1) ec ep)), ((xa 5), .inl (dA 2, 200, .inl (upd fT tl (byV x9 24))))] H := hP
    have hD : va_D A [((xa 0), .inr (3, xFs xa (tl + 1) ec ep)), ((xa 5), .inl (dA 2, 200, .inl (upd fT tl (byV x9 24))))] := hD
    refine lv_iinc (v := nI 16) (lv' := [(2, .int (nI 16)), (0, .ref (xa 0)), (1, .int x9)]) hx hb dX1_appendText_50 hl (k := 0) rfl (by decide) (by decide) rfl (fun ls hl => ?_)
    refine lv_goto (tgt := 23) hx hb dX1_appendText_53 (by decide) ?_
    refine lv_iload_n hx hb dX1_appendText_23 rfl (lv_at hl 0 rfl) ?_
    refine lv_if_lt (tgt := 56) hx hb dX1_appendText_24 (by decide) (fun c_24 => ?_) (fun c_24 => ?_)
    · exact absurd c_24 (by decide)
    refine lv_aload_n hx hb dX1_appendText_27 rfl (lv_at hl 1 rfl) ?_
    refine va_get (D := (dC, dI)) (ci := 3) (v := .ref (xa 5)) (C := RX1) (T := TX1) (N := 9) hx hb hts in_X1 hown hK hP 0 rfl rfl 4 (by decide) (hts _ q290) (fun _ h9 => h9) rfl dX1_appendText_28 ?_
    refine lv_aload_n hx hb dX1_appendText_31 rfl (lv_at hl 1 rfl) ?_
    refine va_get (D := (dC, dI)) (ci := 3) (v := .int (nI (tl + 1))) (C := RX1) (T := TX1) (N := 9) hx hb hts in_X1 hown hK hP 0 rfl rfl 5 (by decide) (hts _ q292) (fun _ h9 => h9) rfl dX1_appendText_32 ?_
    refine lv_iload_n hx hb dX1_appendText_35 rfl (lv_at hl 2 rfl) ?_
    refine lv_iload_n hx hb dX1_appendText_36 rfl (lv_at hl 0 rfl) ?_
    refine lv_ishr hx hb dX1_appendText_37 ?_
    refine lv_i2b (v := (x9 >>> ((nI 16) &&& 31)).toInt8.toInt32) hx hb dX1_appendText_38 rfl ?_
    refine a_bast hx hb hK hP hD hS 1 2 rfl rfl (by omega) (by omega) dX1_appendText_39 (fun H locs hP hD hS => ?_)
    have hP : va_P (dC, dI) vwCl [((xa 0), .inr (3, xFs xa (tl + 1) ec ep)), ((xa 5), .inl (dA 2, 200, .inl (upd (upd fT tl (byV x9 24)) (tl + 1) (vp_nar .byte ((x9 >>> ((nI 16) &&& 31)).toInt8.toInt32)))))] H := hP
    have hD : va_D A [((xa 0), .inr (3, xFs xa (tl + 1) ec ep)), ((xa 5), .inl (dA 2, 200, .inl (upd (upd fT tl (byV x9 24)) (tl + 1) (vp_nar .byte ((x9 >>> ((nI 16) &&& 31)).toInt8.toInt32)))))] := hD
    have e9 : (upd (upd fT tl (byV x9 24)) (tl + 1) (vp_nar .byte ((x9 >>> ((nI 16) &&& 31)).toInt8.toInt32)) : Nat → Int32) = (upd (upd fT tl (byV x9 24)) (tl + 1) (byV x9 16)) := (by rw [pk_vb]; rfl)
    rw [e9] at hP hD; clear e9
    refine lv_aload_n hx hb dX1_appendText_40 rfl (lv_at hl 1 rfl) ?_
    refine lv_dup hx hb dX1_appendText_41 rfl ?_
    refine va_get (D := (dC, dI)) (ci := 3) (v := .int (nI (tl + 1))) (C := RX1) (T := TX1) (N := 9) hx hb hts in_X1 hown hK hP 0 rfl rfl 5 (by decide) (hts _ q292) (fun _ h9 => h9) rfl dX1_appendText_42 ?_
    refine lv_iconst (v := nI 1) hx hb dX1_appendText_45 (by decide) ?_
    refine lv_iadd hx hb dX1_appendText_46 ?_
    refine e_i (y := nI (tl + 1 + 1)) (nI_add _ _) ?_
    refine va_put (D := (dC, dI)) (ci := 3) (v := .int (nI (tl + 1 + 1))) (ty := .int) (C := RX1) (T := TX1) (N := 9) hx hb hts in_X1 tyX1 tyX1_ok nmX1 hown hK hP hD hS 0 rfl rfl 5 (by decide) (hts _ q292) (fun _ h9 => h9) rfl (by decide +kernel) rfl rfl (Nat.le_of_ble_eq_true rfl) dX1_appendText_47 (fun H locs hP hD hS => ?_)
    have hP : va_P (dC, dI) vwCl [((xa 0), .inr (3, xFs xa (tl + 1 + 1) ec ep)), ((xa 5), .inl (dA 2, 200, .inl (upd (upd fT tl (byV x9 24)) (tl + 1) (byV x9 16))))] H := hP
    have hD : va_D A [((xa 0), .inr (3, xFs xa (tl + 1 + 1) ec ep)), ((xa 5), .inl (dA 2, 200, .inl (upd (upd fT tl (byV x9 24)) (tl + 1) (byV x9 16))))] := hD
    have hP : va_P (dC, dI) vwCl [((xa 0), .inr (3, xFs xa (tl + 2) ec ep)), ((xa 5), .inl (dA 2, 200, .inl (upd (upd fT tl (byV x9 24)) (tl + 1) (byV x9 16))))] H := hP
    have hD : va_D A [((xa 0), .inr (3, xFs xa (tl + 2) ec ep)), ((xa 5), .inl (dA 2, 200, .inl (upd (upd fT tl (byV x9 24)) (tl + 1) (byV x9 16))))] := hD
    refine lv_iinc (v := nI 8) (lv' := [(2, .int (nI 8)), (0, .ref (xa 0)), (1, .int x9)]) hx hb dX1_appendText_50 hl (k := 0) rfl (by decide) (by decide) rfl (fun ls hl => ?_)
    refine lv_goto (tgt := 23) hx hb dX1_appendText_53 (by decide) ?_
    refine lv_iload_n hx hb dX1_appendText_23 rfl (lv_at hl 0 rfl) ?_
    refine lv_if_lt (tgt := 56) hx hb dX1_appendText_24 (by decide) (fun c_24 => ?_) (fun c_24 => ?_)
    · exact absurd c_24 (by decide)
    refine lv_aload_n hx hb dX1_appendText_27 rfl (lv_at hl 1 rfl) ?_
    refine va_get (D := (dC, dI)) (ci := 3) (v := .ref (xa 5)) (C := RX1) (T := TX1) (N := 9) hx hb hts in_X1 hown hK hP 0 rfl rfl 4 (by decide) (hts _ q290) (fun _ h9 => h9) rfl dX1_appendText_28 ?_
    refine lv_aload_n hx hb dX1_appendText_31 rfl (lv_at hl 1 rfl) ?_
    refine va_get (D := (dC, dI)) (ci := 3) (v := .int (nI (tl + 2))) (C := RX1) (T := TX1) (N := 9) hx hb hts in_X1 hown hK hP 0 rfl rfl 5 (by decide) (hts _ q292) (fun _ h9 => h9) rfl dX1_appendText_32 ?_
    refine lv_iload_n hx hb dX1_appendText_35 rfl (lv_at hl 2 rfl) ?_
    refine lv_iload_n hx hb dX1_appendText_36 rfl (lv_at hl 0 rfl) ?_
    refine lv_ishr hx hb dX1_appendText_37 ?_
    refine lv_i2b (v := (x9 >>> ((nI 8) &&& 31)).toInt8.toInt32) hx hb dX1_appendText_38 rfl ?_
    refine a_bast hx hb hK hP hD hS 1 2 rfl rfl (by omega) (by omega) dX1_appendText_39 (fun H locs hP hD hS => ?_)
    have hP : va_P (dC, dI) vwCl [((xa 0), .inr (3, xFs xa (tl + 2) ec ep)), ((xa 5), .inl (dA 2, 200, .inl (upd (upd (upd fT tl (byV x9 24)) (tl + 1) (byV x9 16)) (tl + 2) (vp_nar .byte ((x9 >>> ((nI 8) &&& 31)).toInt8.toInt32)))))] H := hP
    have hD : va_D A [((xa 0), .inr (3, xFs xa (tl + 2) ec ep)), ((xa 5), .inl (dA 2, 200, .inl (upd (upd (upd fT tl (byV x9 24)) (tl + 1) (byV x9 16)) (tl + 2) (vp_nar .byte ((x9 >>> ((nI 8) &&& 31)).toInt8.toInt32)))))] := hD
    have e9 : (upd (upd (upd fT tl (byV x9 24)) (tl + 1) (byV x9 16)) (tl + 2) (vp_nar .byte ((x9 >>> ((nI 8) &&& 31)).toInt8.toInt32)) : Nat → Int32) = (upd (upd (upd fT tl (byV x9 24)) (tl + 1) (byV x9 16)) (tl + 2) (byV x9 8)) := (by rw [pk_vb]; rfl)
    rw [e9] at hP hD; clear e9
    refine lv_aload_n hx hb dX1_appendText_40 rfl (lv_at hl 1 rfl) ?_
    refine lv_dup hx hb dX1_appendText_41 rfl ?_
    refine va_get (D := (dC, dI)) (ci := 3) (v := .int (nI (tl + 2))) (C := RX1) (T := TX1) (N := 9) hx hb hts in_X1 hown hK hP 0 rfl rfl 5 (by decide) (hts _ q292) (fun _ h9 => h9) rfl dX1_appendText_42 ?_
    refine lv_iconst (v := nI 1) hx hb dX1_appendText_45 (by decide) ?_
    refine lv_iadd hx hb dX1_appendText_46 ?_
    refine e_i (y := nI (tl + 2 + 1)) (nI_add _ _) ?_
    refine va_put (D := (dC, dI)) (ci := 3) (v := .int (nI (tl + 2 + 1))) (ty := .int) (C := RX1) (T := TX1) (N := 9) hx hb hts in_X1 tyX1 tyX1_ok nmX1 hown hK hP hD hS 0 rfl rfl 5 (by decide) (hts _ q292) (fun _ h9 => h9) rfl (by decide +kernel) rfl rfl (Nat.le_of_ble_eq_true rfl) dX1_appendText_47 (fun H locs hP hD hS => ?_)
    have hP : va_P (dC, dI) vwCl [((xa 0), .inr (3, xFs xa (tl + 2 + 1) ec ep)), ((xa 5), .inl (dA 2, 200, .inl (upd (upd (upd fT tl (byV x9 24)) (tl + 1) (byV x9 16)) (tl + 2) (byV x9 8))))] H := hP
    have hD : va_D A [((xa 0), .inr (3, xFs xa (tl + 2 + 1) ec ep)), ((xa 5), .inl (dA 2, 200, .inl (upd (upd (upd fT tl (byV x9 24)) (tl + 1) (byV x9 16)) (tl + 2) (byV x9 8))))] := hD
    have hP : va_P (dC, dI) vwCl [((xa 0), .inr (3, xFs xa (tl + 3) ec ep)), ((xa 5), .inl (dA 2, 200, .inl (upd (upd (upd fT tl (byV x9 24)) (tl + 1) (byV x9 16)) (tl + 2) (byV x9 8))))] H := hP
    have hD : va_D A [((xa 0), .inr (3, xFs xa (tl + 3) ec ep)), ((xa 5), .inl (dA 2, 200, .inl (upd (upd (upd fT tl (byV x9 24)) (tl + 1) (byV x9 16)) (tl + 2) (byV x9 8))))] := hD
    refine lv_iinc (v := nI 0) (lv' := [(2, .int (nI 0)), (0, .ref (xa 0)), (1, .int x9)]) hx hb dX1_appendText_50 hl (k := 0) rfl (by decide) (by decide) rfl (fun ls hl => ?_)
    refine lv_goto (tgt := 23) hx hb dX1_appendText_53 (by decide) ?_
    refine lv_iload_n hx hb dX1_appendText_23 rfl (lv_at hl 0 rfl) ?_
    refine lv_if_lt (tgt := 56) hx hb dX1_appendText_24 (by decide) (fun c_24 => ?_) (fun c_24 => ?_)
    · exact absurd c_24 (by decide)
    refine lv_aload_n hx hb dX1_appendText_27 rfl (lv_at hl 1 rfl) ?_
    refine va_get (D := (dC, dI)) (ci := 3) (v := .ref (xa 5)) (C := RX1) (T := TX1) (N := 9) hx hb hts in_X1 hown hK hP 0 rfl rfl 4 (by decide) (hts _ q290) (fun _ h9 => h9) rfl dX1_appendText_28 ?_
    refine lv_aload_n hx hb dX1_appendText_31 rfl (lv_at hl 1 rfl) ?_
    refine va_get (D := (dC, dI)) (ci := 3) (v := .int (nI (tl + 3))) (C := RX1) (T := TX1) (N := 9) hx hb hts in_X1 hown hK hP 0 rfl rfl 5 (by decide) (hts _ q292) (fun _ h9 => h9) rfl dX1_appendText_32 ?_
    refine lv_iload_n hx hb dX1_appendText_35 rfl (lv_at hl 2 rfl) ?_
    refine lv_iload_n hx hb dX1_appendText_36 rfl (lv_at hl 0 rfl) ?_
    refine lv_ishr hx hb dX1_appendText_37 ?_
    refine lv_i2b (v := (x9 >>> ((nI 0) &&& 31)).toInt8.toInt32) hx hb dX1_appendText_38 rfl ?_
    refine a_bast hx hb hK hP hD hS 1 2 rfl rfl (by omega) (by omega) dX1_appendText_39 (fun H locs hP hD hS => ?_)
    have hP : va_P (dC, dI) vwCl [((xa 0), .inr (3, xFs xa (tl + 3) ec ep)), ((xa 5), .inl (dA 2, 200, .inl (upd (upd (upd (upd fT tl (byV x9 24)) (tl + 1) (byV x9 16)) (tl + 2) (byV x9 8)) (tl + 3) (vp_nar .byte ((x9 >>> ((nI 0) &&& 31)).toInt8.toInt32)))))] H := hP
    have hD : va_D A [((xa 0), .inr (3, xFs xa (tl + 3) ec ep)), ((xa 5), .inl (dA 2, 200, .inl (upd (upd (upd (upd fT tl (byV x9 24)) (tl + 1) (byV x9 16)) (tl + 2) (byV x9 8)) (tl + 3) (vp_nar .byte ((x9 >>> ((nI 0) &&& 31)).toInt8.toInt32)))))] := hD
    have e9 : (upd (upd (upd (upd fT tl (byV x9 24)) (tl + 1) (byV x9 16)) (tl + 2) (byV x9 8)) (tl + 3) (vp_nar .byte ((x9 >>> ((nI 0) &&& 31)).toInt8.toInt32)) : Nat → Int32) = (upd (upd (upd (upd fT tl (byV x9 24)) (tl + 1) (byV x9 16)) (tl + 2) (byV x9 8)) (tl + 3) (byV x9 0)) := (by rw [pk_vb]; rfl)
    rw [e9] at hP hD; clear e9
    refine lv_aload_n hx hb dX1_appendText_40 rfl (lv_at hl 1 rfl) ?_
    refine lv_dup hx hb dX1_appendText_41 rfl ?_
    refine va_get (D := (dC, dI)) (ci := 3) (v := .int (nI (tl + 3))) (C := RX1) (T := TX1) (N := 9) hx hb hts in_X1 hown hK hP 0 rfl rfl 5 (by decide) (hts _ q292) (fun _ h9 => h9) rfl dX1_appendText_42 ?_
    refine lv_iconst (v := nI 1) hx hb dX1_appendText_45 (by decide) ?_
    refine lv_iadd hx hb dX1_appendText_46 ?_
    refine e_i (y := nI (tl + 3 + 1)) (nI_add _ _) ?_
    refine va_put (D := (dC, dI)) (ci := 3) (v := .int (nI (tl + 3 + 1))) (ty := .int) (C := RX1) (T := TX1) (N := 9) hx hb hts in_X1 tyX1 tyX1_ok nmX1 hown hK hP hD hS 0 rfl rfl 5 (by decide) (hts _ q292) (fun _ h9 => h9) rfl (by decide +kernel) rfl rfl (Nat.le_of_ble_eq_true rfl) dX1_appendText_47 (fun H locs hP hD hS => ?_)
    have hP : va_P (dC, dI) vwCl [((xa 0), .inr (3, xFs xa (tl + 3 + 1) ec ep)), ((xa 5), .inl (dA 2, 200, .inl (upd (upd (upd (upd fT tl (byV x9 24)) (tl + 1) (byV x9 16)) (tl + 2) (byV x9 8)) (tl + 3) (byV x9 0))))] H := hP
    have hD : va_D A [((xa 0), .inr (3, xFs xa (tl + 3 + 1) ec ep)), ((xa 5), .inl (dA 2, 200, .inl (upd (upd (upd (upd fT tl (byV x9 24)) (tl + 1) (byV x9 16)) (tl + 2) (byV x9 8)) (tl + 3) (byV x9 0))))] := hD
    have hP : va_P (dC, dI) vwCl [((xa 0), .inr (3, xFs xa (tl + 4) ec ep)), ((xa 5), .inl (dA 2, 200, .inl (upd (upd (upd (upd fT tl (byV x9 24)) (tl + 1) (byV x9 16)) (tl + 2) (byV x9 8)) (tl + 3) (byV x9 0))))] H := hP
    have hD : va_D A [((xa 0), .inr (3, xFs xa (tl + 4) ec ep)), ((xa 5), .inl (dA 2, 200, .inl (upd (upd (upd (upd fT tl (byV x9 24)) (tl + 1) (byV x9 16)) (tl + 2) (byV x9 8)) (tl + 3) (byV x9 0))))] := hD
    refine lv_iinc (v := (-8)) (lv' := [(2, .int (-8)), (0, .ref (xa 0)), (1, .int x9)]) hx hb dX1_appendText_50 hl (k := 0) rfl (by decide) (by decide) rfl (fun ls hl => ?_)
    refine lv_goto (tgt := 23) hx hb dX1_appendText_53 (by decide) ?_
    refine lv_iload_n hx hb dX1_appendText_23 rfl (lv_at hl 0 rfl) ?_
    refine lv_if_lt (tgt := 56) hx hb dX1_appendText_24 (by decide) (fun c_24 => ?_) (fun c_24 => ?_)
    rotate_left
    · exact absurd (by decide) c_24
    refine lv_aload_n hx hb dX1_appendText_56 rfl (lv_at hl 1 rfl) ?_
    refine va_get (D := (dC, dI)) (ci := 3) (v := .int (nI (tl + 4))) (C := RX1) (T := TX1) (N := 9) hx hb hts in_X1 hown hK hP 0 rfl rfl 5 (by decide) (hts _ q292) (fun _ h9 => h9) rfl dX1_appendText_57 ?_
    subst hQe
    refine vx_ret ?_
    refine W.widen (k := 1) (n := 6) (by first | decide | omega) (by first | decide | omega) ?_
    exact W.iret (v := nI (tl + 4)) hx hb hr (fun tz ht hW => ⟨⟨_, (), rfl, ⟨by omega, rfl⟩, B1_at ht (hP.sub [0, 1] rfl) (hD.sub [0, 1] (by decide) rfl) trivial⟩, hS.F ht⟩) hS.2.2 dX1_appendText_60
set_option maxHeartbeats 4000000 in
theorem x1_truncateText {l : Launch} {dC : Nat → ClassId} {dI : Nat → Nat → Nat} {dA : Nat → ClassId} {s0 : State} {b0 : Addr} (Z : Z0 l dC dI dA s0 b0) (A : Nat → Prop) (sz : Nat) (hA : ∀ q : Nat, sz ≤ q → A q) {σ : Nat → Nat} (Y : SS (dC, dI) dA σ s0) (xa : Nat → Nat) (tl : Nat) (ec ep : Int32) (i9 : Int32) (hl9 : tl ≤ 200) : vx_Met l yX1_truncateText (ws_ yX1_truncateText cX1_truncateText 2 (some .int)) ({ frames := 8, cells := 1, slots := 6, locals := 480 } : Room) (gP [.ref (xa 0), .int i9] s0 A (fun H => H.size = sz ∧ va_P (dC, dI) vwCl [((xa 0), .inr (3, xFs xa tl ec ep))] H ∧ va_D A [((xa 0), .inr (3, xFs xa tl ec ep))])) (va_Qi (S := Nat) (fun r u => inB i9 (nI 0) (nI tl) = true ∧ r = nI u ∧ i9 = nI u ∧ u ≤ tl) (B1 (dC, dI) A (fun u => [((xa 0), .inr (3, xFs xa u ec ep))]) (fun _ _ => True)) A) (vx_X (S := Unit) (fun _ => True) (fun _ E _ t9 => ((E = "java/lang/IllegalArgumentException" ∧ inB i9 (nI 0) (nI tl) = false)) ∧ va_P (dC, dI) vwCl [((xa 0), .inr (3, xFs xa tl ec ep))] t9.heap) A) 1 6 A := by
  refine vx_ofW (cc := cX1_truncateText) (maxL := 2) (ret := (some .int)) (by decide) rfl ?_
  intro p e s m args below meth c s₁ B hml hnoH hv
  obtain ⟨hav, hG, hsz, hP, hD⟩ := hv
  have hx := B.exec
  have hb := B.bytes
  have hr := B.returns
  have hts := atoms_spec (ws := (ws_ yX1_truncateText cX1_truncateText 2 (some .int))) B.pre
  have hts : ∀ w ∈ lw_all, w.before _ s = true := fun w h => hts w (List.mem_cons_of_mem _ h)
  have hown : s.vm.findClass RX1 = some m.cls := findClass_of_methodNamed B.named
  have hlocks := B.notSynchronized
  have hK := hG.K Z
  subst hsz
  have hS : va_S A s.heap s.heap [] := va_S.rf
  have hl := lv_entry ([.ref (xa 0), .int i9]) (n := 2) (Nat.le_of_ble_eq_true rfl)
  rw [show entryFrame m args 2 = entryFrame m ([.ref (xa 0), .int i9] : List Value).toArray 2 from by rw [hav], lg_entry_eq]
  generalize (lg_sl ([.ref (xa 0), .int i9]) ++ List.replicate (2 - (lg_sl ([.ref (xa 0), .int i9])).length) Slot.unset).toArray = ls at hl ⊢
  have hl : lv_has ls 2 [(0, .ref (xa 0)), (1, .int i9)] := hl
  generalize hQe : vx_MQ below _ _ _ s _ _ _ = Q
  change W p l e ({ frames := 8, cells := 1, slots := 6, locals := 480 } : Room) s m args below meth c s.heap [] 0 0 Q (F0 m 0 ls [])
  refine lv_iload_n hx hb dX1_truncateText_0 rfl (lv_at hl 1 rfl) ?_
  refine lv_i2l (v := i9.toInt64) hx hb dX1_truncateText_1 rfl ?_
  refine lv_lconst (v := 0) hx hb dX1_truncateText_2 rfl ?_
  refine lv_aload_n hx hb dX1_truncateText_3 rfl (lv_at hl 0 rfl) ?_
  refine va_get (D := (dC, dI)) (ci := 3) (v := .int (nI tl)) (C := RX1) (T := TX1) (N := 9) hx hb hts in_X1 hown hK hP 0 rfl rfl 5 (by decide) (hts _ q292) (fun _ h9 => h9) rfl dX1_truncateText_4 ?_
  refine lv_i2l (v := (nI tl).toInt64) hx hb dX1_truncateText_7 rfl ?_
  refine s_i (va_runS (As := [.long i9.toInt64, .long 0, .long ((nI tl).toInt64)]) (rest := []) ⟨hx, hb, hml, hown, hts⟩ (x1_isIn Z i9.toInt64 0 ((nI tl).toInt64)) (va_cwS 3 hts (lw_S q332 q333 q96 q334) rfl rfl rfl (by decide +kernel) ⟨Nat.le_of_ble_eq_true rfl, Nat.le_of_ble_eq_true rfl⟩) (gP_S hG hS (fun q _ h => h.elim) trivial) rfl rfl hl.1 rfl (lv_room (Nat.le_of_ble_eq_true rfl)) dX1_truncateText_8 ⟨by first | decide | omega | (show _ ≤ (1 : Nat); omega), by first | decide | omega | (show _ ≤ (6 : Nat); omega)⟩) ?_
  refine e_i (y := bI (inB i9 (nI 0) (nI tl))) (congrArg bI (inL_B i9 (nI 0) (nI tl))) ?_
  have hF9 := va_free (wc := []) hD hS (fun q h => hA q h) [] rfl
  refine x_v (wc := []) (wr := [((xa 0), .inr (3, xFs xa tl ec ep))]) (vx_runS (As := [.int (bI (inB i9 (nI 0) (nI tl)))]) (rest := []) ⟨hx, hb, hml, hown, hts⟩ (x1_argument Z (va_A [] s.heap.size) s.heap.size (fun q h => Or.inr h) (SS.st Y) (σ 51) (SS.st1 Y) (inB i9 (nI 0) (nI tl))) (va_cwS 1 hts (lw_S q335 q336 q96 q337) rfl rfl rfl (by decide +kernel) ⟨Nat.le_of_ble_eq_true rfl, Nat.le_of_ble_eq_true rfl⟩) (gP_S hG hS (fun q _ h => hF9 q h) rfl) rfl rfl hl.1 rfl (lv_room (Nat.le_of_ble_eq_true rfl)) dX1_truncateText_11 ⟨by first | decide | omega | (show _ ≤ (1 : Nat); omega), by first | decide | omega | (show _ ≤ (6 : Nat); omega)⟩) hP hD hS hA [] [0] rfl rfl (by decide) (by decide) (fun E ce q9 u9 t9 H locs ht9 hp9 hb9 hz hP hS h1 h2 h3 => ?_) (fun u9 H locs hq hX hz hk hP hD hS => ?_)
  · have hD := hD.sub (ws' := [((xa 0), .inr (3, xFs xa tl ec ep))]) [0] (by decide) rfl
    have hP : va_P (dC, dI) vwCl [((xa 0), .inr (3, xFs xa tl ec ep))] H := hP
    have hD : va_D A [((xa 0), .inr (3, xFs xa tl ec ep))] := hD
    subst hb9
    subst hQe
    exact vx_out (fun x h => (hnoH x h).elim) hlocks h1 h2 h3 (fun t10 e10 _ => ⟨(), trivial, (⟨⟨rfl, hp9⟩, by rw [e10]; exact hP.sub (ws' := [((xa 0), .inr (3, xFs xa tl ec ep))]) [0] rfl⟩ : (_ ∧ _)), hS.F e10⟩) hS.2.2 (by first | decide | omega) (by first | decide | omega)
  have hg11 : (inB i9 (nI 0) (nI tl)) = true := hq
  clear hq
  have hP : va_P (dC, dI) vwCl [((xa 0), .inr (3, xFs xa tl ec ep))] H := hP
  have hD : va_D A [((xa 0), .inr (3, xFs xa tl ec ep))] := hD
  have hb9_ := hg11
  obtain ⟨ji, h9ji, e8ji⟩ := inB_nat (by omega) hg11
  have hP0 := hP
  have hD0 := hD
  subst e8ji
  have hP := hP0
  have hD := hD0
  refine lv_aload_n hx hb dX1_truncateText_14 rfl (lv_at hl 0 rfl) ?_
  refine lv_iload_n hx hb dX1_truncateText_15 rfl (lv_at hl 1 rfl) ?_
  refine va_put (D := (dC, dI)) (ci := 3) (v := .int (nI ji)) (ty := .int) (C := RX1) (T := TX1) (N := 9) hx hb hts in_X1 tyX1 tyX1_ok nmX1 hown hK hP hD hS 0 rfl rfl 5 (by decide) (hts _ q292) (fun _ h9 => h9) rfl (by decide +kernel) rfl rfl (Nat.le_of_ble_eq_true rfl) dX1_truncateText_16 (fun H locs hP hD hS => ?_)
  have hP : va_P (dC, dI) vwCl [((xa 0), .inr (3, xFs xa ji ec ep))] H := hP
  have hD : va_D A [((xa 0), .inr (3, xFs xa ji ec ep))] := hD
  refine lv_aload_n hx hb dX1_truncateText_19 rfl (lv_at hl 0 rfl) ?_
  refine va_get (D := (dC, dI)) (ci := 3) (v := .int (nI ji)) (C := RX1) (T := TX1) (N := 9) hx hb hts in_X1 hown hK hP 0 rfl rfl 5 (by decide) (hts _ q292) (fun _ h9 => h9) rfl dX1_truncateText_20 ?_
  subst hQe
  refine vx_ret ?_
  refine W.widen (k := 1) (n := 6) (by first | decide | omega) (by first | decide | omega) ?_
  exact W.iret (v := nI ji) hx hb hr (fun tz ht hW => ⟨⟨_, ji, rfl, ⟨hb9_, rfl, rfl, h9ji⟩, B1_at ht (hP.sub [0] rfl) (hD.sub [0] (by decide) rfl) trivial⟩, hS.F ht⟩) hS.2.2 dX1_truncateText_23
set_option maxHeartbeats 4000000 in
theorem x1_errorCode {l : Launch} {dC : Nat → ClassId} {dI : Nat → Nat → Nat} {dA : Nat → ClassId} {s0 : State} {b0 : Addr} (Z : Z0 l dC dI dA s0 b0) {σ : Nat → Nat} (Y : SS (dC, dI) dA σ s0) (xa : Nat → Nat) (tl : Nat) (ec ep : Int32) : Met l yX1_errorCode (ws_ yX1_errorCode cX1_errorCode 1 (some .int)) ({ frames := 1, cells := 0, slots := 0, locals := 60 } : Room) (gP [.ref (xa 0)] s0 (fun _ => False) (fun H => va_P (dC, dI) vwCl [((xa 0), .inr (3, xFs xa tl ec ep))] H)) (vp_Si (fun r => r = ec)) 0 0 (fun _ => False) := by
  refine Met.ofW (cc := cX1_errorCode) (maxL := 1) (ret := (some .int)) (by decide) rfl ?_
  intro p e s m args below meth c s₁ B hml hv
  obtain ⟨hav, hG, hP⟩ := hv
  have hx := B.exec
  have hb := B.bytes
  have hr := B.returns
  have hts := atoms_spec (ws := (ws_ yX1_errorCode cX1_errorCode 1 (some .int))) B.pre
  have hts : ∀ w ∈ lw_all, w.before _ s = true := fun w h => hts w (List.mem_cons_of_mem _ h)
  have hown : s.vm.findClass RX1 = some m.cls := findClass_of_methodNamed B.named
  have hlocks := B.notSynchronized
  have hK := hG.K Z
  have hS : va_S (fun _ => False) s.heap s.heap [] := va_S.rf
  have hl := lv_entry ([.ref (xa 0)]) (n := 1) (Nat.le_of_ble_eq_true rfl)
  rw [show entryFrame m args 1 = entryFrame m ([.ref (xa 0)] : List Value).toArray 1 from by rw [hav], lg_entry_eq]
  generalize (lg_sl ([.ref (xa 0)]) ++ List.replicate (1 - (lg_sl ([.ref (xa 0)])).length) Slot.unset).toArray = ls at hl ⊢
  have hl : lv_has ls 1 [(0, .ref (xa 0))] := hl
  generalize hQe : MQ below _ _ s _ _ _ = Q
  change W p l e ({ frames := 1, cells := 0, slots := 0, locals := 60 } : Room) s m args below meth c s.heap [] 0 0 Q (F0 m 0 ls [])
  refine lv_aload_n hx hb dX1_errorCode_0 rfl (lv_at hl 0 rfl) ?_
  refine va_get (D := (dC, dI)) (ci := 3) (v := .int ec) (C := RX1) (T := TX1) (N := 9) hx hb hts in_X1 hown hK hP 0 rfl rfl 6 (by decide) (hts _ q293) (fun _ h9 => h9) rfl dX1_errorCode_1 ?_
  subst hQe
  exact W.iret (v := ec) hx hb hr (fun tz ht hW => ⟨_, rfl, rfl, ht⟩) hS.2.2 dX1_errorCode_4
set_option maxHeartbeats 4000000 in
theorem x1_errorPosition {l : Launch} {dC : Nat → ClassId} {dI : Nat → Nat → Nat} {dA : Nat → ClassId} {s0 : State} {b0 : Addr} (Z : Z0 l dC dI dA s0 b0) {σ : Nat → Nat} (Y : SS (dC, dI) dA σ s0) (xa : Nat → Nat) (tl : Nat) (ec ep : Int32) : Met l yX1_errorPosition (ws_ yX1_errorPosition cX1_errorPosition 1 (some .int)) ({ frames := 1, cells := 0, slots := 0, locals := 60 } : Room) (gP [.ref (xa 0)] s0 (fun _ => False) (fun H => va_P (dC, dI) vwCl [((xa 0), .inr (3, xFs xa tl ec ep))] H)) (vp_Si (fun r => r = ep)) 0 0 (fun _ => False) := by
  refine Met.ofW (cc := cX1_errorPosition) (maxL := 1) (ret := (some .int)) (by decide) rfl ?_
  intro p e s m args below meth c s₁ B hml hv
  obtain ⟨hav, hG, hP⟩ := hv
  have hx := B.exec
  have hb := B.bytes
  have hr := B.returns
  have hts := atoms_spec (ws := (ws_ yX1_errorPosition cX1_errorPosition 1 (some .int))) B.pre
  have hts : ∀ w ∈ lw_all, w.before _ s = true := fun w h => hts w (List.mem_cons_of_mem _ h)
  have hown : s.vm.findClass RX1 = some m.cls := findClass_of_methodNamed B.named
  have hlocks := B.notSynchronized
  have hK := hG.K Z
  have hS : va_S (fun _ => False) s.heap s.heap [] := va_S.rf
  have hl := lv_entry ([.ref (xa 0)]) (n := 1) (Nat.le_of_ble_eq_true rfl)
  rw [show entryFrame m args 1 = entryFrame m ([.ref (xa 0)] : List Value).toArray 1 from by rw [hav], lg_entry_eq]
  generalize (lg_sl ([.ref (xa 0)]) ++ List.replicate (1 - (lg_sl ([.ref (xa 0)])).length) Slot.unset).toArray = ls at hl ⊢
  have hl : lv_has ls 1 [(0, .ref (xa 0))] := hl
  generalize hQe : MQ below _ _ s _ _ _ = Q
  change W p l e ({ frames := 1, cells := 0, slots := 0, locals := 60 } : Room) s m args below meth c s.heap [] 0 0 Q (F0 m 0 ls [])
  refine lv_aload_n hx hb dX1_errorPosition_0 rfl (lv_at hl 0 rfl) ?_
  refine va_get (D := (dC, dI)) (ci := 3) (v := .int ep) (C := RX1) (T := TX1) (N := 9) hx hb hts in_X1 hown hK hP 0 rfl rfl 7 (by decide) (hts _ q294) (fun _ h9 => h9) rfl dX1_errorPosition_1 ?_
  subst hQe
  exact W.iret (v := ep) hx hb hr (fun tz ht hW => ⟨_, rfl, rfl, ht⟩) hS.2.2 dX1_errorPosition_4
set_option maxHeartbeats 4000000 in
theorem x1_setSignature {l : Launch} {dC : Nat → ClassId} {dI : Nat → Nat → Nat} {dA : Nat → ClassId} {s0 : State} {b0 : Addr} (Z : Z0 l dC dI dA s0 b0) (A : Nat → Prop) (sz : Nat) (hA : ∀ q : Nat, sz ≤ q → A q) {σ : Nat → Nat} (Y : SS (dC, dI) dA σ s0) (xa : Nat → Nat) (tl : Nat) (ec ep : Int32) (ga : Nat) (fr : Nat → Option Nat) (pz qz rz : Int32) : vx_Met l yX1_setSignature (ws_ yX1_setSignature cX1_setSignature 4 (some .int)) ({ frames := 8, cells := 35, slots := 1068, locals := 480 } : Room) (gP [.ref (xa 0), .int pz, .int qz, .int rz] s0 A (fun H => H.size = sz ∧ va_P (dC, dI) vwCl [((xa 3), .inr (4, [.ref ga, .ref (xa 7)])), ((xa 7), .inl (dA 4, 8, .inr (.inr (.inr (.inr fr)))))] H ∧ va_D A [((xa 3), .inr (4, [.ref ga, .ref (xa 7)])), ((xa 7), .inl (dA 4, 8, .inr (.inr (.inr (.inr fr)))))] ∧ RO A (dC, dI) [((xa 0), .inr (3, xFs xa tl ec ep))] H)) (va_Qi (S := (Nat × Nat) × Nat × Nat × Nat) (fun r9 u => ssB pz qz rz = true ∧ pz = nI u.2.1 ∧ qz = nI u.2.2.1 ∧ rz = nI u.2.2.2 ∧ 1 ≤ u.2.1 + u.2.2.1 + u.2.2.2 ∧ u.2.1 + u.2.2.1 + u.2.2.2 ≤ 5 ∧ r9 = nI (2 ^ (u.2.1 + u.2.2.1 + u.2.2.2))) (B1 (dC, dI) A (fun u => ([((xa 3), .inr (4, [.ref u.1.1, .ref (xa 7)])), ((xa 7), .inl (dA 4, 8, .inr (.inr (.inr (.inr (fun _ => some (σ 1))))))), (u.1.1, .inr (1, [.int (nI u.2.1), .int (nI u.2.2.1), .int (nI u.2.2.2), .int (nI (u.2.1 + u.2.2.1 + u.2.2.2)), .int (nI (2 ^ (u.2.1 + u.2.2.1 + u.2.2.2) - 1)), .ref u.1.2])), (u.1.2, .inl (dA 9, 32, .inr (.inr (.inr (.inr (fun i => some (u.1.2 + 1 + i)))))))] ++ rwL (dA 0) 32 u.1.2 (sgT u.2.1 u.2.2.1 u.2.2.2) 32)) (fun _ _ => True)) A) (vx_X (S := Unit) (fun _ => True) (fun _ E _ t9 => ((E = "java/lang/IllegalArgumentException" ∧ ssB pz qz rz = false)) ∧ va_P (dC, dI) vwCl [((xa 3), .inr (4, [.ref ga, .ref (xa 7)])), ((xa 7), .inl (dA 4, 8, .inr (.inr (.inr (.inr fr)))))] t9.heap) A) 35 1068 A := by
  refine vx_ofW (cc := cX1_setSignature) (maxL := 4) (ret := (some .int)) (by decide) rfl ?_
  intro p e s m args below meth c s₁ B hml hnoH hv
  obtain ⟨hav, hG, hsz, hP, hD, hR0⟩ := hv
  have hx := B.exec
  have hb := B.bytes
  have hr := B.returns
  have hts := atoms_spec (ws := (ws_ yX1_setSignature cX1_setSignature 4 (some .int))) B.pre
  have hts : ∀ w ∈ lw_all, w.before _ s = true := fun w h => hts w (List.mem_cons_of_mem _ h)
  have hown : s.vm.findClass RX1 = some m.cls := findClass_of_methodNamed B.named
  have hlocks := B.notSynchronized
  have hK := hG.K Z
  subst hsz
  have hS : va_S A s.heap s.heap [] := va_S.rf
  have hl := lv_entry ([.ref (xa 0), .int pz, .int qz, .int rz]) (n := 4) (Nat.le_of_ble_eq_true rfl)
  rw [show entryFrame m args 4 = entryFrame m ([.ref (xa 0), .int pz, .int qz, .int rz] : List Value).toArray 4 from by rw [hav], lg_entry_eq]
  generalize (lg_sl ([.ref (xa 0), .int pz, .int qz, .int rz]) ++ List.replicate (4 - (lg_sl ([.ref (xa 0), .int pz, .int qz, .int rz])).length) Slot.unset).toArray = ls at hl ⊢
  have hl : lv_has ls 4 [(0, .ref (xa 0)), (1, .int pz), (2, .int qz), (3, .int rz)] := hl
  generalize hQe : vx_MQ below _ _ _ s _ _ _ = Q
  change W p l e ({ frames := 8, cells := 35, slots := 1068, locals := 480 } : Room) s m args below meth c s.heap [] 0 0 Q (F0 m 0 ls [])
  refine lv_iload_n hx hb dX1_setSignature_0 rfl (lv_at hl 1 rfl) ?_
  refine lv_i2l (v := pz.toInt64) hx hb dX1_setSignature_1 rfl ?_
  refine lv_lconst (v := 0) hx hb dX1_setSignature_2 rfl ?_
  refine lv_ldc2 hx hb hown (hts _ q331) dX1_setSignature_3 ?_
  refine s_i (va_runS (As := [.long pz.toInt64, .long 0, .long (5 : Int64)]) (rest := []) ⟨hx, hb, hml, hown, hts⟩ (x1_isIn Z pz.toInt64 0 (5 : Int64)) (va_cwS 3 hts (lw_S q332 q333 q96 q334) rfl rfl rfl (by decide +kernel) ⟨Nat.le_of_ble_eq_true rfl, Nat.le_of_ble_eq_true rfl⟩) (gP_S hG hS (fun q _ h => h.elim) trivial) rfl rfl hl.1 rfl (lv_room (Nat.le_of_ble_eq_true rfl)) dX1_setSignature_6 ⟨by first | decide | omega | (show _ ≤ (35 : Nat); omega), by first | decide | omega | (show _ ≤ (1068 : Nat); omega)⟩) ?_
  have J_1 : ∀ (g1 : Bool) (H : Heap) (locs : List Loc) (ls : Array Slot), (g1 = ssB pz qz rz) → va_P (dC, dI) vwCl [((xa 3), .inr (4, [.ref ga, .ref (xa 7)])), ((xa 7), .inl (dA 4, 8, .inr (.inr (.inr (.inr fr)))))] H → va_D A [((xa 3), .inr (4, [.ref ga, .ref (xa 7)])), ((xa 7), .inl (dA 4, 8, .inr (.inr (.inr (.inr fr)))))] → va_S A s.heap H locs → lv_has ls 4 [(0, .ref (xa 0)), (1, .int pz), (2, .int qz), (3, .int rz)] → W p l e ({ frames := 8, cells := 35, slots := 1068, locals := 480 } : Room) s m args below meth c H locs 0 0 Q (F0 m 57 ls [.int (bI g1)]) := by
    intro g1 H locs ls hg1 hP hD hS hl
    have hF9 := va_free (wc := []) hD hS (fun q h => hA q h) [] rfl
    refine x_v (wc := []) (wr := [((xa 3), .inr (4, [.ref ga, .ref (xa 7)])), ((xa 7), .inl (dA 4, 8, .inr (.inr (.inr (.inr fr)))))]) (vx_runS (As := [.int (bI g1)]) (rest := []) ⟨hx, hb, hml, hown, hts⟩ (x1_argument Z (va_A [] H.size) H.size (fun q h => Or.inr h) (SS.st Y) (σ 51) (SS.st1 Y) g1) (va_cwS 1 hts (lw_S q335 q336 q96 q337) rfl rfl rfl (by decide +kernel) ⟨Nat.le_of_ble_eq_true rfl, Nat.le_of_ble_eq_true rfl⟩) (gP_S hG hS (fun q _ h => hF9 q h) rfl) rfl rfl hl.1 rfl (lv_room (Nat.le_of_ble_eq_true rfl)) dX1_setSignature_57 ⟨by first | decide | omega | (show _ ≤ (35 : Nat); omega), by first | decide | omega | (show _ ≤ (1068 : Nat); omega)⟩) hP hD hS hA [] [0, 1] rfl rfl (by decide) (by decide) (fun E ce q9 u9 t9 H locs ht9 hp9 hb9 hz hP hS h1 h2 h3 => ?_) (fun u9 H locs hq hX hz hk hP hD hS => ?_)
    · have hD := hD.sub (ws' := [((xa 3), .inr (4, [.ref ga, .ref (xa 7)])), ((xa 7), .inl (dA 4, 8, .inr (.inr (.inr (.inr fr)))))]) [0, 1] (by decide) rfl
      have hP : va_P (dC, dI) vwCl [((xa 3), .inr (4, [.ref ga, .ref (xa 7)])), ((xa 7), .inl (dA 4, 8, .inr (.inr (.inr (.inr fr)))))] H := hP
      have hD : va_D A [((xa 3), .inr (4, [.ref ga, .ref (xa 7)])), ((xa 7), .inl (dA 4, 8, .inr (.inr (.inr (.inr fr)))))] := hD
      subst hb9
      subst hQe
      exact vx_out (fun x h => (hnoH x h).elim) hlocks h1 h2 h3 (fun t10 e10 _ => ⟨(), trivial, (⟨⟨rfl, hg1.symm.trans hp9⟩, by rw [e10]; exact hP.sub (ws' := [((xa 3), .inr (4, [.ref ga, .ref (xa 7)])), ((xa 7), .inl (dA 4, 8, .inr (.inr (.inr (.inr fr)))))]) [0, 1] rfl⟩ : (_ ∧ _)), hS.F e10⟩) hS.2.2 (by first | decide | omega) (by first | decide | omega)
    have hg57 : g1 = true := hq
    clear hq
    have hP : va_P (dC, dI) vwCl [((xa 3), .inr (4, [.ref ga, .ref (xa 7)])), ((xa 7), .inl (dA 4, 8, .inr (.inr (.inr (.inr fr)))))] H := hP
    have hD : va_D A [((xa 3), .inr (4, [.ref ga, .ref (xa 7)])), ((xa 7), .inl (dA 4, 8, .inr (.inr (.inr (.inr fr)))))] := hD
    have hss := hg1.symm.trans hg57
    obtain ⟨pn, qn, rn, e8p, e8q, e8r, hss1, hn⟩ := ss_n hss
    have hP0 := hP
    have hD0 := hD
    subst e8p e8q e8r
    have hP := hP0
    have hD := hD0
    refine lv_aload_n hx hb dX1_setSignature_60 rfl (lv_at hl 0 rfl) ?_
    refine va_get (D := (dC, dI)) (ci := 3) (v := .ref (xa 3)) (C := RX1) (T := TX1) (N := 9) hx hb hts in_X1 hown hK (hR0.up hS) 0 rfl rfl 2 (by decide) (hts _ q286) (fun _ h9 => h9) rfl dX1_setSignature_61 ?_
    refine va_new (D := (dC, dI)) (ci := 1) (fs := [.int 0, .int 0, .int 0, .int 0, .int 0, .null]) (C := RX5) (T := TX5) (N := 6) hx hb hts in_X5 tyX5 tyX5_ok hown (hts _ q412) (hts _ q184) (hts _ q101) hK hP hD hS hA rfl (fun j hj => by rcases (show j = 0 ∨ j = 1 ∨ j = 2 ∨ j = 3 ∨ j = 4 ∨ j = 5 by omega) with rfl | rfl | rfl | rfl | rfl | rfl <;> rfl) (by first | decide | omega) (by first | decide | omega) dX1_setSignature_64 (fun nw_2 H hP hD hS => ?_)
    have hP : va_P (dC, dI) vwCl [((xa 3), .inr (4, [.ref ga, .ref (xa 7)])), ((xa 7), .inl (dA 4, 8, .inr (.inr (.inr (.inr fr))))), (nw_2, .inr (1, [.int 0, .int 0, .int 0, .int 0, .int 0, .null]))] H := hP
    have hD : va_D A [((xa 3), .inr (4, [.ref ga, .ref (xa 7)])), ((xa 7), .inl (dA 4, 8, .inr (.inr (.inr (.inr fr))))), (nw_2, .inr (1, [.int 0, .int 0, .int 0, .int 0, .int 0, .null]))] := hD
    refine lv_dup hx hb dX1_setSignature_67 rfl ?_
    refine lv_iload_n hx hb dX1_setSignature_68 rfl (lv_at hl 1 rfl) ?_
    refine lv_iload_n hx hb dX1_setSignature_69 rfl (lv_at hl 2 rfl) ?_
    refine lv_iload_n hx hb dX1_setSignature_70 rfl (lv_at hl 3 rfl) ?_
    have hF9 := va_free (wc := [(nw_2, .inr (1, [.int 0, .int 0, .int 0, .int 0, .int 0, .null]))]) hD hS (fun q h => hA q h) [2] rfl
    refine c_v (wr := [((xa 3), .inr (4, [.ref ga, .ref (xa 7)])), ((xa 7), .inl (dA 4, 8, .inr (.inr (.inr (.inr fr)))))]) (va_runI (As := [.int (nI pn), .int (nI qn), .int (nI rn)]) (rest := [.ref nw_2, .ref (xa 3)]) ⟨hx, hb, hml, hown, hts⟩ (x5_init3 Z (va_A [(nw_2, .inr (1, [.int 0, .int 0, .int 0, .int 0, .int 0, .null]))] H.size) H.size (fun q h => Or.inr h) Y nw_2 pn qn rn hn) (cwI 3 hts (lw_meth q190) rfl rfl rfl (hts _ q101) (hts _ q413) (hts _ q189) rfl (by decide +kernel) ⟨Nat.le_of_ble_eq_true rfl, Nat.le_of_ble_eq_true rfl⟩) (gP_S hG hS (fun q _ h => hF9 q h) ⟨rfl, (hP.sub (ws' := [(nw_2, .inr (1, [.int 0, .int 0, .int 0, .int 0, .int 0, .null]))]) [2] rfl), (hD.sub (ws' := [(nw_2, .inr (1, [.int 0, .int 0, .int 0, .int 0, .int 0, .null]))]) [2] (by decide) rfl).self⟩) rfl rfl hl.1 rfl (lv_room (Nat.le_of_ble_eq_true rfl)) dX1_setSignature_71 ⟨by first | decide | omega | (show _ ≤ (35 : Nat); omega), by first | decide | omega | (show _ ≤ (1068 : Nat); omega)⟩) hP hD hS hA [2] [0, 1] rfl rfl (by decide) (by decide) (fun u9 H locs hq hX hz hk hP hD hS => ?_)
    obtain ⟨sg9_2, rfl⟩ : ∃ z, z = u9 := ⟨_, rfl⟩
    have hP : va_P (dC, dI) vwCl ([((xa 3), .inr (4, [.ref ga, .ref (xa 7)])), ((xa 7), .inl (dA 4, 8, .inr (.inr (.inr (.inr fr))))), (nw_2, .inr (1, [.int (nI pn), .int (nI qn), .int (nI rn), .int (nI (pn + qn + rn)), .int (nI (2 ^ (pn + qn + rn) - 1)), .ref sg9_2])), (sg9_2, .inl (dA 9, 32, .inr (.inr (.inr (.inr (fun i => some (sg9_2 + 1 + i)))))))] ++ rwL (dA 0) 32 sg9_2 (sgT pn qn rn) 32) H := hP
    have hD : va_D A ([((xa 3), .inr (4, [.ref ga, .ref (xa 7)])), ((xa 7), .inl (dA 4, 8, .inr (.inr (.inr (.inr fr))))), (nw_2, .inr (1, [.int (nI pn), .int (nI qn), .int (nI rn), .int (nI (pn + qn + rn)), .int (nI (2 ^ (pn + qn + rn) - 1)), .ref sg9_2])), (sg9_2, .inl (dA 9, 32, .inr (.inr (.inr (.inr (fun i => some (sg9_2 + 1 + i)))))))] ++ rwL (dA 0) 32 sg9_2 (sgT pn qn rn) 32) := hD
    refine va_putN (D := (dC, dI)) (ci := 4) (v := .ref nw_2) (ty := (tyX4 0)) (C := RX4) (T := TX4) (N := 2) hx hb hts in_X4 tyX4 tyX4_ok nmX4 hown hK hP hD hS 0 rfl rfl 0 (by decide) (((va_Nw.warmF hG.1 (va_Nw.of rfl (Z.2.1 _ q240)))).use rfl) (fun _ h9 => h9) rfl (by decide +kernel) rfl rfl (Nat.le_of_ble_eq_true rfl) dX1_setSignature_74 (fun H locs hP hD hS => ?_)
    have hP : va_P (dC, dI) vwCl ([((xa 3), .inr (4, [.ref nw_2, .ref (xa 7)])), ((xa 7), .inl (dA 4, 8, .inr (.inr (.inr (.inr fr))))), (nw_2, .inr (1, [.int (nI pn), .int (nI qn), .int (nI rn), .int (nI (pn + qn + rn)), .int (nI (2 ^ (pn + qn + rn) - 1)), .ref sg9_2])), (sg9_2, .inl (dA 9, 32, .inr (.inr (.inr (.inr (fun i => some (sg9_2 + 1 + i)))))))] ++ rwL (dA 0) 32 sg9_2 (sgT pn qn rn) 32) H := hP
    have hD : va_D A ([((xa 3), .inr (4, [.ref nw_2, .ref (xa 7)])), ((xa 7), .inl (dA 4, 8, .inr (.inr (.inr (.inr fr))))), (nw_2, .inr (1, [.int (nI pn), .int (nI qn), .int (nI rn), .int (nI (pn + qn + rn)), .int (nI (2 ^ (pn + qn + rn) - 1)), .ref sg9_2])), (sg9_2, .inl (dA 9, 32, .inr (.inr (.inr (.inr (fun i => some (sg9_2 + 1 + i)))))))] ++ rwL (dA 0) 32 sg9_2 (sgT pn qn rn) 32) := hD
    refine lv_aload_n hx hb dX1_setSignature_77 rfl (lv_at hl 0 rfl) ?_
    refine va_get (D := (dC, dI)) (ci := 3) (v := .ref (xa 3)) (C := RX1) (T := TX1) (N := 9) hx hb hts in_X1 hown hK (hR0.up hS) 0 rfl rfl 2 (by decide) (hts _ q286) (fun _ h9 => h9) rfl dX1_setSignature_78 ?_
    have hF9 := va_free (wc := [((xa 7), .inl (dA 4, 8, .inr (.inr (.inr (.inr fr)))))]) hD hS (fun q h => hA q h) [1] rfl
    refine c_v (wr := ([((xa 3), .inr (4, [.ref nw_2, .ref (xa 7)])), (nw_2, .inr (1, [.int (nI pn), .int (nI qn), .int (nI rn), .int (nI (pn + qn + rn)), .int (nI (2 ^ (pn + qn + rn) - 1)), .ref sg9_2])), (sg9_2, .inl (dA 9, 32, .inr (.inr (.inr (.inr (fun i => some (sg9_2 + 1 + i)))))))] ++ rwL (dA 0) 32 sg9_2 (sgT pn qn rn) 32)) (va_runV (As := []) (rest := []) ⟨hx, hb, hml, hown, hts⟩ (x4_empty Z (va_A [((xa 7), .inl (dA 4, 8, .inr (.inr (.inr (.inr fr)))))] H.size) H.size (fun q h => Or.inr h) Y (xa 3) nw_2 (xa 7) fr) (cwV 0 hts (lw_V q414 q234 q235 q100 q236) rfl rfl rfl (by decide +kernel) ⟨Nat.le_of_ble_eq_true rfl, Nat.le_of_ble_eq_true rfl⟩) (gP_V (va_recv hK hP (ci := 4) (q0 := 0) rfl rfl) hG hS (fun q _ h => hF9 q h) ⟨rfl, (hP.sub (ws' := [((xa 7), .inl (dA 4, 8, .inr (.inr (.inr (.inr fr)))))]) [1] rfl), (hD.sub (ws' := [((xa 7), .inl (dA 4, 8, .inr (.inr (.inr (.inr fr)))))]) [1] (by decide) rfl).self, (RO.beside (wr := [((xa 3), .inr (4, [.ref nw_2, .ref (xa 7)]))]) hP hD [1] [0] rfl rfl (by decide))⟩) rfl rfl hl.1 rfl (lv_room (Nat.le_of_ble_eq_true rfl)) dX1_setSignature_81 ⟨by first | decide | omega | (show _ ≤ (35 : Nat); omega), by first | decide | omega | (show _ ≤ (1068 : Nat); omega)⟩) hP hD hS hA [1] [0, 2, 3, 4, 5, 6, 7, 8, 9, 10, 11, 12, 13, 14, 15, 16, 17, 18, 19, 20, 21, 22, 23, 24, 25, 26, 27, 28, 29, 30, 31, 32, 33, 34, 35] rfl rfl (by decide) (by decide) (fun u9 H locs hq hX hz hk hP hD hS => ?_)
    have hP : va_P (dC, dI) vwCl ([((xa 3), .inr (4, [.ref nw_2, .ref (xa 7)])), (nw_2, .inr (1, [.int (nI pn), .int (nI qn), .int (nI rn), .int (nI (pn + qn + rn)), .int (nI (2 ^ (pn + qn + rn) - 1)), .ref sg9_2])), (sg9_2, .inl (dA 9, 32, .inr (.inr (.inr (.inr (fun i => some (sg9_2 + 1 + i)))))))] ++ rwL (dA 0) 32 sg9_2 (sgT pn qn rn) 32 ++ [((xa 7), .inl (dA 4, 8, .inr (.inr (.inr (.inr (fun _ => some (σ 1)))))))]) H := hP
    have hD : va_D A ([((xa 3), .inr (4, [.ref nw_2, .ref (xa 7)])), (nw_2, .inr (1, [.int (nI pn), .int (nI qn), .int (nI rn), .int (nI (pn + qn + rn)), .int (nI (2 ^ (pn + qn + rn) - 1)), .ref sg9_2])), (sg9_2, .inl (dA 9, 32, .inr (.inr (.inr (.inr (fun i => some (sg9_2 + 1 + i)))))))] ++ rwL (dA 0) 32 sg9_2 (sgT pn qn rn) 32 ++ [((xa 7), .inl (dA 4, 8, .inr (.inr (.inr (.inr (fun _ => some (σ 1)))))))]) := hD
    have hP := hP.sub (ws' := ([((xa 3), .inr (4, [.ref nw_2, .ref (xa 7)])), (nw_2, .inr (1, [.int (nI pn), .int (nI qn), .int (nI rn), .int (nI (pn + qn + rn)), .int (nI (2 ^ (pn + qn + rn) - 1)), .ref sg9_2])), (sg9_2, .inl (dA 9, 32, .inr (.inr (.inr (.inr (fun i => some (sg9_2 + 1 + i))))))), ((xa 7), .inl (dA 4, 8, .inr (.inr (.inr (.inr (fun _ => some (σ 1)))))))] ++ rwL (dA 0) 32 sg9_2 (sgT pn qn rn) 32)) [0, 1, 2, 35, 3, 4, 5, 6, 7, 8, 9, 10, 11, 12, 13, 14, 15, 16, 17, 18, 19, 20, 21, 22, 23, 24, 25, 26, 27, 28, 29, 30, 31, 32, 33, 34] rfl
    have hD := hD.sub (ws' := ([((xa 3), .inr (4, [.ref nw_2, .ref (xa 7)])), (nw_2, .inr (1, [.int (nI pn), .int (nI qn), .int (nI rn), .int (nI (pn + qn + rn)), .int (nI (2 ^ (pn + qn + rn) - 1)), .ref sg9_2])), (sg9_2, .inl (dA 9, 32, .inr (.inr (.inr (.inr (fun i => some (sg9_2 + 1 + i))))))), ((xa 7), .inl (dA 4, 8, .inr (.inr (.inr (.inr (fun _ => some (σ 1)))))))] ++ rwL (dA 0) 32 sg9_2 (sgT pn qn rn) 32)) [0, 1, 2, 35, 3, 4, 5, 6, 7, 8, 9, 10, 11, 12, 13, 14, 15, 16, 17, 18, 19, 20, 21, 22, 23, 24, 25, 26, 27, 28, 29, 30, 31, 32, 33, 34] (by decide) rfl
    refine lv_aload_n hx hb dX1_setSignature_84 rfl (lv_at hl 0 rfl) ?_
    refine va_get (D := (dC, dI)) (ci := 3) (v := .ref (xa 3)) (C := RX1) (T := TX1) (N := 9) hx hb hts in_X1 hown hK (hR0.up hS) 0 rfl rfl 2 (by decide) (hts _ q286) (fun _ h9 => h9) rfl dX1_setSignature_85 ?_
    refine va_getN (D := (dC, dI)) (ci := 4) (v := .ref nw_2) (C := RX4) (T := TX4) (N := 2) hx hb hts in_X4 hown hK hP 0 rfl rfl 0 (by decide) (((va_Nw.warmF hG.1 (va_Nw.of rfl (Z.2.1 _ q240)))).use rfl) (fun _ h9 => h9) rfl dX1_setSignature_88 ?_
    refine va_getN (D := (dC, dI)) (ci := 1) (v := .int (nI (2 ^ (pn + qn + rn) - 1))) (C := RX5) (T := TX5) (N := 6) hx hb hts in_X5 hown hK hP 1 rfl rfl 4 (by decide) (((va_Nw.warmF hG.1 (va_Nw.of rfl (Z.2.1 _ q212)))).use rfl) (fun _ h9 => h9) rfl dX1_setSignature_91 ?_
    refine lv_iconst (v := nI 1) hx hb dX1_setSignature_94 (by decide) ?_
    refine lv_iadd hx hb dX1_setSignature_95 ?_
    refine e_i (y := nI (2 ^ (pn + qn + rn) - 1 + 1)) (nI_add _ _) ?_
    have h2n := Nat.two_pow_pos (pn + qn + rn)
    refine e_i (y := nI (2 ^ (pn + qn + rn))) (n_eq (by omega)) ?_
    subst hQe
    refine vx_ret ?_
    refine W.widen (k := 35) (n := 1068) (by first | decide | omega) (by first | decide | omega) ?_
    exact W.iret (v := nI (2 ^ (pn + qn + rn))) hx hb hr (fun tz ht hW => ⟨⟨_, ((nw_2, sg9_2), pn, qn, rn), rfl, ⟨hss, rfl, rfl, rfl, hss1, hn, rfl⟩, B1_at ht (hP.sub [0, 3, 1, 2, 4, 5, 6, 7, 8, 9, 10, 11, 12, 13, 14, 15, 16, 17, 18, 19, 20, 21, 22, 23, 24, 25, 26, 27, 28, 29, 30, 31, 32, 33, 34, 35] rfl) (hD.sub [0, 3, 1, 2, 4, 5, 6, 7, 8, 9, 10, 11, 12, 13, 14, 15, 16, 17, 18, 19, 20, 21, 22, 23, 24, 25, 26, 27, 28, 29, 30, 31, 32, 33, 34, 35] (by decide) rfl) trivial⟩, hS.F ht⟩) hS.2.2 dX1_setSignature_96
  refine e_i (y := bI (inB pz (nI 0) (nI 5))) (congrArg bI (inL_B pz (nI 0) (nI 5))) ?_
  refine lv_if_eq (tgt := 56) hx hb dX1_setSignature_9 (by decide) (fun c_9 => ?_) (fun c_9 => ?_)
  · refine lv_iconst (v := nI 0) hx hb dX1_setSignature_56 (by decide) ?_
    refine e_i (y := bI false) (rfl) ?_
    exact J_1 false s.heap [] ls (by unfold ssB; rw [bI_0 c_9]; rfl) (hP.sub [0, 1] rfl) (hD.sub [0, 1] (by decide) rfl) hS (lv_sub hl [0, 1, 2, 3] rfl)
  · refine lv_iload_n hx hb dX1_setSignature_12 rfl (lv_at hl 2 rfl) ?_
    refine lv_i2l (v := qz.toInt64) hx hb dX1_setSignature_13 rfl ?_
    refine lv_lconst (v := 0) hx hb dX1_setSignature_14 rfl ?_
    refine lv_ldc2 hx hb hown (hts _ q331) dX1_setSignature_15 ?_
    refine s_i (va_runS (As := [.long qz.toInt64, .long 0, .long (5 : Int64)]) (rest := []) ⟨hx, hb, hml, hown, hts⟩ (x1_isIn Z qz.toInt64 0 (5 : Int64)) (va_cwS 3 hts (lw_S q332 q333 q96 q334) rfl rfl rfl (by decide +kernel) ⟨Nat.le_of_ble_eq_true rfl, Nat.le_of_ble_eq_true rfl⟩) (gP_S hG hS (fun q _ h => h.elim) trivial) rfl rfl hl.1 rfl (lv_room (Nat.le_of_ble_eq_true rfl)) dX1_setSignature_18 ⟨by first | decide | omega | (show _ ≤ (35 : Nat); omega), by first | decide | omega | (show _ ≤ (1068 : Nat); omega)⟩) ?_
    refine e_i (y := bI (inB qz (nI 0) (nI 5))) (congrArg bI (inL_B qz (nI 0) (nI 5))) ?_
    refine lv_if_eq (tgt := 56) hx hb dX1_setSignature_21 (by decide) (fun c_21 => ?_) (fun c_21 => ?_)
    · refine lv_iconst (v := nI 0) hx hb dX1_setSignature_56 (by decide) ?_
      refine e_i (y := bI false) (rfl) ?_
      exact J_1 false s.heap [] ls (by unfold ssB; rw [bI_1 c_9, bI_0 c_21]; rfl) (hP.sub [0, 1] rfl) (hD.sub [0, 1] (by decide) rfl) hS (lv_sub hl [0, 1, 2, 3] rfl)
    · refine lv_iload_n hx hb dX1_setSignature_24 rfl (lv_at hl 3 rfl) ?_
      refine lv_i2l (v := rz.toInt64) hx hb dX1_setSignature_25 rfl ?_
      refine lv_lconst (v := 0) hx hb dX1_setSignature_26 rfl ?_
      refine lv_ldc2 hx hb hown (hts _ q331) dX1_setSignature_27 ?_
      refine s_i (va_runS (As := [.long rz.toInt64, .long 0, .long (5 : Int64)]) (rest := []) ⟨hx, hb, hml, hown, hts⟩ (x1_isIn Z rz.toInt64 0 (5 : Int64)) (va_cwS 3 hts (lw_S q332 q333 q96 q334) rfl rfl rfl (by decide +kernel) ⟨Nat.le_of_ble_eq_true rfl, Nat.le_of_ble_eq_true rfl⟩) (gP_S hG hS (fun q _ h => h.elim) trivial) rfl rfl hl.1 rfl (lv_room (Nat.le_of_ble_eq_true rfl)) dX1_setSignature_30 ⟨by first | decide | omega | (show _ ≤ (35 : Nat); omega), by first | decide | omega | (show _ ≤ (1068 : Nat); omega)⟩) ?_
      refine e_i (y := bI (inB rz (nI 0) (nI 5))) (congrArg bI (inL_B rz (nI 0) (nI 5))) ?_
      refine lv_if_eq (tgt := 56) hx hb dX1_setSignature_33 (by decide) (fun c_33 => ?_) (fun c_33 => ?_)
      · refine lv_iconst (v := nI 0) hx hb dX1_setSignature_56 (by decide) ?_
        refine e_i (y := bI false) (rfl) ?_
        exact J_1 false s.heap [] ls (by unfold ssB; rw [bI_1 c_9, bI_1 c_21, bI_0 c_33]; rfl) (hP.sub [0, 1] rfl) (hD.sub [0, 1] (by decide) rfl) hS (lv_sub hl [0, 1, 2, 3] rfl)
      · refine lv_iload_n hx hb dX1_setSignature_36 rfl (lv_at hl 1 rfl) ?_
        refine lv_iload_n hx hb dX1_setSignature_37 rfl (lv_at hl 2 rfl) ?_
        refine lv_iadd hx hb dX1_setSignature_38 ?_
        refine lv_iload_n hx hb dX1_setSignature_39 rfl (lv_at hl 3 rfl) ?_
        refine lv_iadd hx hb dX1_setSignature_40 ?_
        refine lv_i2l (v := ((pz + qz) + rz).toInt64) hx hb dX1_setSignature_41 rfl ?_
        refine lv_lconst (v := 1) hx hb dX1_setSignature_42 rfl ?_
        refine lv_ldc2 hx hb hown (hts _ q331) dX1_setSignature_43 ?_
        refine s_i (va_runS (As := [.long (((pz + qz) + rz).toInt64), .long 1, .long (5 : Int64)]) (rest := []) ⟨hx, hb, hml, hown, hts⟩ (x1_isIn Z (((pz + qz) + rz).toInt64) 1 (5 : Int64)) (va_cwS 3 hts (lw_S q332 q333 q96 q334) rfl rfl rfl (by decide +kernel) ⟨Nat.le_of_ble_eq_true rfl, Nat.le_of_ble_eq_true rfl⟩) (gP_S hG hS (fun q _ h => h.elim) trivial) rfl rfl hl.1 rfl (lv_room (Nat.le_of_ble_eq_true rfl)) dX1_setSignature_46 ⟨by first | decide | omega | (show _ ≤ (35 : Nat); omega), by first | decide | omega | (show _ ≤ (1068 : Nat); omega)⟩) ?_
        refine e_i (y := bI (inB (pz + qz + rz) (nI 1) (nI 5))) (congrArg bI (inL_B (pz + qz + rz) (nI 1) (nI 5))) ?_
        refine lv_if_eq (tgt := 56) hx hb dX1_setSignature_49 (by decide) (fun c_49 => ?_) (fun c_49 => ?_)
        · refine lv_iconst (v := nI 0) hx hb dX1_setSignature_56 (by decide) ?_
          refine e_i (y := bI false) (rfl) ?_
          exact J_1 false s.heap [] ls (by unfold ssB; rw [bI_1 c_9, bI_1 c_21, bI_1 c_33, bI_0 c_49]; rfl) (hP.sub [0, 1] rfl) (hD.sub [0, 1] (by decide) rfl) hS (lv_sub hl [0, 1, 2, 3] rfl)
        · refine lv_iconst (v := nI 1) hx hb dX1_setSignature_52 (by decide) ?_
          refine lv_goto (tgt := 57) hx hb dX1_setSignature_53 (by decide) ?_
          refine e_i (y := bI true) (rfl) ?_
          exact J_1 true s.heap [] ls (by unfold ssB; rw [bI_1 c_9, bI_1 c_21, bI_1 c_33, bI_1 c_49]; rfl) (hP.sub [0, 1] rfl) (hD.sub [0, 1] (by decide) rfl) hS (lv_sub hl [0, 1, 2, 3] rfl)
set_option maxHeartbeats 4000000 in
theorem x1_save_x {l : Launch} {dC : Nat → ClassId} {dI : Nat → Nat → Nat} {dA : Nat → ClassId} {s0 : State} {b0 : Addr} (Z : Z0 l dC dI dA s0 b0) (A : Nat → Prop) (sz : Nat) (hA : ∀ q : Nat, sz ≤ q → A q) {σ : Nat → Nat} (Y : SS (dC, dI) dA σ s0) (xa : Nat → Nat) (tl : Nat) (ec ep : Int32) (ga : Nat) (kv fr : Nat → Option Nat) (i9 : Int32) (hbad : inB i9 (nI 0) (nI 1) = false) : vx_Met l yX1_save (ws_ yX1_save cX1_save 2 none) ({ frames := 8, cells := 1, slots := 6, locals := 480 } : Room) (gP [.ref (xa 0), .int i9] s0 A (fun H => H.size = sz ∧ RO A (dC, dI) [((xa 0), .inr (3, xFs xa tl ec ep))] H)) (va_Qv (S := Unit) (fun _ => False) (B1 (dC, dI) A (fun _ => []) (fun _ _ => True)) A) (vx_X (S := Unit) (fun _ => True) (fun _ E _ _ => E = "java/lang/IllegalArgumentException") A) 1 6 A := by
  refine vx_ofW (cc := cX1_save) (maxL := 2) (ret := none) (by decide) rfl ?_
  intro p e s m args below meth c s₁ B hml hnoH hv
  obtain ⟨hav, hG, hsz, hR0⟩ := hv
  have hx := B.exec
  have hb := B.bytes
  have hr := B.returns
  have hts := atoms_spec (ws := (ws_ yX1_save cX1_save 2 none)) B.pre
  have hts : ∀ w ∈ lw_all, w.before _ s = true := fun w h => hts w (List.mem_cons_of_mem _ h)
  have hown : s.vm.findClass RX1 = some m.cls := findClass_of_methodNamed B.named
  have hlocks := B.notSynchronized
  have hK := hG.K Z
  subst hsz
  have hS : va_S A s.heap s.heap [] := va_S.rf
  have hP : va_P (dC, dI) vwCl [] s.heap := fun k q h => by simp at h
  have hD : va_D A [] := ⟨fun i j p q h => by simp at h, fun k q h => by simp at h⟩
  have hl := lv_entry ([.ref (xa 0), .int i9]) (n := 2) (Nat.le_of_ble_eq_true rfl)
  rw [show entryFrame m args 2 = entryFrame m ([.ref (xa 0), .int i9] : List Value).toArray 2 from by rw [hav], lg_entry_eq]
  generalize (lg_sl ([.ref (xa 0), .int i9]) ++ List.replicate (2 - (lg_sl ([.ref (xa 0), .int i9])).length) Slot.unset).toArray = ls at hl ⊢
  have hl : lv_has ls 2 [(0, .ref (xa 0)), (1, .int i9)] := hl
  generalize hQe : vx_MQ below _ _ _ s _ _ _ = Q
  change W p l e ({ frames := 8, cells := 1, slots := 6, locals := 480 } : Room) s m args below meth c s.heap [] 0 0 Q (F0 m 0 ls [])
  refine lv_iload_n hx hb dX1_save_0 rfl (lv_at hl 1 rfl) ?_
  refine lv_i2l (v := i9.toInt64) hx hb dX1_save_1 rfl ?_
  refine lv_lconst (v := 0) hx hb dX1_save_2 rfl ?_
  refine lv_lconst (v := 1) hx hb dX1_save_3 rfl ?_
  refine s_i (va_runS (As := [.long i9.toInt64, .long 0, .long 1]) (rest := []) ⟨hx, hb, hml, hown, hts⟩ (x1_isIn Z i9.toInt64 0 1) (va_cwS 3 hts (lw_S q332 q333 q96 q334) rfl rfl rfl (by decide +kernel) ⟨Nat.le_of_ble_eq_true rfl, Nat.le_of_ble_eq_true rfl⟩) (gP_S hG hS (fun q _ h => h.elim) trivial) rfl rfl hl.1 rfl (lv_room (Nat.le_of_ble_eq_true rfl)) dX1_save_4 ⟨by first | decide | omega | (show _ ≤ (1 : Nat); omega), by first | decide | omega | (show _ ≤ (6 : Nat); omega)⟩) ?_
  refine e_i (y := bI false) (congrArg bI ((inL_B i9 (nI 0) (nI 1)).trans hbad)) ?_
  have hF9 := va_free (wc := []) hD hS (fun q h => hA q h) [] rfl
  refine x_v (wc := []) (wr := []) (vx_runS (As := [.int (bI false)]) (rest := []) ⟨hx, hb, hml, hown, hts⟩ (x1_argument Z (va_A [] s.heap.size) s.heap.size (fun q h => Or.inr h) (SS.st Y) (σ 51) (SS.st1 Y) false) (va_cwS 1 hts (lw_S q335 q336 q96 q337) rfl rfl rfl (by decide +kernel) ⟨Nat.le_of_ble_eq_true rfl, Nat.le_of_ble_eq_true rfl⟩) (gP_S hG hS (fun q _ h => hF9 q h) rfl) rfl rfl hl.1 rfl (lv_room (Nat.le_of_ble_eq_true rfl)) dX1_save_7 ⟨by first | decide | omega | (show _ ≤ (1 : Nat); omega), by first | decide | omega | (show _ ≤ (6 : Nat); omega)⟩) hP hD hS hA [] [] rfl rfl (by decide) (by decide) (fun E ce q9 u9 t9 H locs ht9 hp9 hb9 hz hP hS h1 h2 h3 => ?_) (fun u9 H locs hq hX hz hk hP hD hS => ?_)
  · have hD := hD.sub (ws' := []) [] (by decide) rfl
    have hP : va_P (dC, dI) vwCl [] H := hP
    have hD : va_D A [] := hD
    subst hb9
    subst hQe
    exact vx_out (fun x h => (hnoH x h).elim) hlocks h1 h2 h3 (fun t10 e10 _ => ⟨(), trivial, rfl, hS.F e10⟩) hS.2.2 (by first | decide | omega) (by first | decide | omega)
  exact absurd hq (by decide)
set_option maxHeartbeats 4000000 in
theorem x1_restore_x {l : Launch} {dC : Nat → ClassId} {dI : Nat → Nat → Nat} {dA : Nat → ClassId} {s0 : State} {b0 : Addr} (Z : Z0 l dC dI dA s0 b0) (A : Nat → Prop) (sz : Nat) (hA : ∀ q : Nat, sz ≤ q → A q) {σ : Nat → Nat} (Y : SS (dC, dI) dA σ s0) (xa : Nat → Nat) (tl : Nat) (ec ep : Int32) (ga : Nat) (kv fr : Nat → Option Nat) (i9 : Int32) (hbad : inB i9 (nI 0) (nI 1) = false) : vx_Met l yX1_restore (ws_ yX1_restore cX1_restore 2 none) ({ frames := 8, cells := 1, slots := 6, locals := 480 } : Room) (gP [.ref (xa 0), .int i9] s0 A (fun H => H.size = sz ∧ RO A (dC, dI) [((xa 0), .inr (3, xFs xa tl ec ep))] H)) (va_Qv (S := Unit) (fun _ => False) (B1 (dC, dI) A (fun _ => []) (fun _ _ => True)) A) (vx_X (S := Unit) (fun _ => True) (fun _ E _ _ => E = "java/lang/IllegalArgumentException") A) 1 6 A := by
  refine vx_ofW (cc := cX1_restore) (maxL := 2) (ret := none) (by decide) rfl ?_
  intro p e s m args below meth c s₁ B hml hnoH hv
  obtain ⟨hav, hG, hsz, hR0⟩ := hv
  have hx := B.exec
  have hb := B.bytes
  have hr := B.returns
  have hts := atoms_spec (ws := (ws_ yX1_restore cX1_restore 2 none)) B.pre
  have hts : ∀ w ∈ lw_all, w.before _ s = true := fun w h => hts w (List.mem_cons_of_mem _ h)
  have hown : s.vm.findClass RX1 = some m.cls := findClass_of_methodNamed B.named
  have hlocks := B.notSynchronized
  have hK := hG.K Z
  subst hsz
  have hS : va_S A s.heap s.heap [] := va_S.rf
  have hP : va_P (dC, dI) vwCl [] s.heap := fun k q h => by simp at h
  have hD : va_D A [] := ⟨fun i j p q h => by simp at h, fun k q h => by simp at h⟩
  have hl := lv_entry ([.ref (xa 0), .int i9]) (n := 2) (Nat.le_of_ble_eq_true rfl)
  rw [show entryFrame m args 2 = entryFrame m ([.ref (xa 0), .int i9] : List Value).toArray 2 from by rw [hav], lg_entry_eq]
  generalize (lg_sl ([.ref (xa 0), .int i9]) ++ List.replicate (2 - (lg_sl ([.ref (xa 0), .int i9])).length) Slot.unset).toArray = ls at hl ⊢
  have hl : lv_has ls 2 [(0, .ref (xa 0)), (1, .int i9)] := hl
  generalize hQe : vx_MQ below _ _ _ s _ _ _ = Q
  change W p l e ({ frames := 8, cells := 1, slots := 6, locals := 480 } : Room) s m args below meth c s.heap [] 0 0 Q (F0 m 0 ls [])
  refine lv_iload_n hx hb dX1_restore_0 rfl (lv_at hl 1 rfl) ?_
  refine lv_i2l (v := i9.toInt64) hx hb dX1_restore_1 rfl ?_
  refine lv_lconst (v := 0) hx hb dX1_restore_2 rfl ?_
  refine lv_lconst (v := 1) hx hb dX1_restore_3 rfl ?_
  refine s_i (va_runS (As := [.long i9.toInt64, .long 0, .long 1]) (rest := []) ⟨hx, hb, hml, hown, hts⟩ (x1_isIn Z i9.toInt64 0 1) (va_cwS 3 hts (lw_S q332 q333 q96 q334) rfl rfl rfl (by decide +kernel) ⟨Nat.le_of_ble_eq_true rfl, Nat.le_of_ble_eq_true rfl⟩) (gP_S hG hS (fun q _ h => h.elim) trivial) rfl rfl hl.1 rfl (lv_room (Nat.le_of_ble_eq_true rfl)) dX1_restore_4 ⟨by first | decide | omega | (show _ ≤ (1 : Nat); omega), by first | decide | omega | (show _ ≤ (6 : Nat); omega)⟩) ?_
  refine e_i (y := bI false) (congrArg bI ((inL_B i9 (nI 0) (nI 1)).trans hbad)) ?_
  have hF9 := va_free (wc := []) hD hS (fun q h => hA q h) [] rfl
  refine x_v (wc := []) (wr := []) (vx_runS (As := [.int (bI false)]) (rest := []) ⟨hx, hb, hml, hown, hts⟩ (x1_argument Z (va_A [] s.heap.size) s.heap.size (fun q h => Or.inr h) (SS.st Y) (σ 51) (SS.st1 Y) false) (va_cwS 1 hts (lw_S q335 q336 q96 q337) rfl rfl rfl (by decide +kernel) ⟨Nat.le_of_ble_eq_true rfl, Nat.le_of_ble_eq_true rfl⟩) (gP_S hG hS (fun q _ h => hF9 q h) rfl) rfl rfl hl.1 rfl (lv_room (Nat.le_of_ble_eq_true rfl)) dX1_restore_7 ⟨by first | decide | omega | (show _ ≤ (1 : Nat); omega), by first | decide | omega | (show _ ≤ (6 : Nat); omega)⟩) hP hD hS hA [] [] rfl rfl (by decide) (by decide) (fun E ce q9 u9 t9 H locs ht9 hp9 hb9 hz hP hS h1 h2 h3 => ?_) (fun u9 H locs hq hX hz hk hP hD hS => ?_)
  · have hD := hD.sub (ws' := []) [] (by decide) rfl
    have hP : va_P (dC, dI) vwCl [] H := hP
    have hD : va_D A [] := hD
    subst hb9
    subst hQe
    exact vx_out (fun x h => (hnoH x h).elim) hlocks h1 h2 h3 (fun t10 e10 _ => ⟨(), trivial, rfl, hS.F e10⟩) hS.2.2 (by first | decide | omega) (by first | decide | omega)
  exact absurd hq (by decide)
set_option maxHeartbeats 4000000 in
theorem x1_save_n {l : Launch} {dC : Nat → ClassId} {dI : Nat → Nat → Nat} {dA : Nat → ClassId} {s0 : State} {b0 : Addr} (Z : Z0 l dC dI dA s0 b0) (A : Nat → Prop) (sz : Nat) (hA : ∀ q : Nat, sz ≤ q → A q) {σ : Nat → Nat} (Y : SS (dC, dI) dA σ s0) (xa : Nat → Nat) (tl : Nat) (ec ep : Int32) (ga : Nat) (rm rr : Nat → Nat) (Ms : Nat → MV) (kv : Nat → Option Nat) (j9 : Nat) (hj9 : j9 < 2) (hk9 : kv j9 = none) : vx_Met l yX1_save (ws_ yX1_save cX1_save 2 none) ({ frames := 8, cells := 37, slots := 1078, locals := 480 } : Room) (gP [.ref (xa 0), .int (nI j9)] s0 A (fun H => H.size = sz ∧ va_P (dC, dI) vwCl [((xa 4), .inl (dA 5, 2, .inr (.inr (.inr (.inr kv))))), ((xa 7), .inl (dA 4, 8, .inr (.inr (.inr (.inr (fun k => some (rm k)))))))] H ∧ va_D A [((xa 4), .inl (dA 5, 2, .inr (.inr (.inr (.inr kv))))), ((xa 7), .inl (dA 4, 8, .inr (.inr (.inr (.inr (fun k => some (rm k)))))))] ∧ RO A (dC, dI) [((xa 0), .inr (3, xFs xa tl ec ep)), ((xa 3), .inr (4, [.ref ga, .ref (xa 7)]))] H ∧ RG A (dC, dI) dA rm rr Ms H)) (va_Qv (S := Nat × Nat) (fun _ => True) (B1 (dC, dI) A (fun u => [((xa 4), .inl (dA 5, 2, .inr (.inr (.inr (.inr (va_up kv j9 (some u.1))))))), ((xa 7), .inl (dA 4, 8, .inr (.inr (.inr (.inr (fun k => some (rm k))))))), (u.1, .inr (4, [.ref ga, .ref u.2])), (u.2, .inl (dA 4, 8, .inr (.inr (.inr (.inr (fun k => some (rm k)))))))]) (fun _ _ => True)) A) (vx_X (S := Unit) (fun _ => False) (fun _ _ _ _ => True) A) 37 1078 A := by
  refine vx_ofW (cc := cX1_save) (maxL := 2) (ret := none) (by decide) rfl ?_
  intro p e s m args below meth c s₁ B hml hnoH hv
  obtain ⟨hav, hG, hsz, hP, hD, hR0, hRG⟩ := hv
  have hx := B.exec
  have hb := B.bytes
  have hr := B.returns
  have hts := atoms_spec (ws := (ws_ yX1_save cX1_save 2 none)) B.pre
  have hts : ∀ w ∈ lw_all, w.before _ s = true := fun w h => hts w (List.mem_cons_of_mem _ h)
  have hown : s.vm.findClass RX1 = some m.cls := findClass_of_methodNamed B.named
  have hlocks := B.notSynchronized
  have hK := hG.K Z
  subst hsz
  have hS : va_S A s.heap s.heap [] := va_S.rf
  have hl := lv_entry ([.ref (xa 0), .int (nI j9)]) (n := 2) (Nat.le_of_ble_eq_true rfl)
  rw [show entryFrame m args 2 = entryFrame m ([.ref (xa 0), .int (nI j9)] : List Value).toArray 2 from by rw [hav], lg_entry_eq]
  generalize (lg_sl ([.ref (xa 0), .int (nI j9)]) ++ List.replicate (2 - (lg_sl ([.ref (xa 0), .int (nI j9)])).length) Slot.unset).toArray = ls at hl ⊢
  have hl : lv_has ls 2 [(0, .ref (xa 0)), (1, .int (nI j9))] := hl
  generalize hQe : vx_MQ below _ _ _ s _ _ _ = Q
  change W p l e ({ frames := 8, cells := 37, slots := 1078, locals := 480 } : Room) s m args below meth c s.heap [] 0 0 Q (F0 m 0 ls [])
  refine lv_iload_n hx hb dX1_save_0 rfl (lv_at hl 1 rfl) ?_
  refine lv_i2l (v := (nI j9).toInt64) hx hb dX1_save_1 rfl ?_
  refine lv_lconst (v := 0) hx hb dX1_save_2 rfl ?_
  refine lv_lconst (v := 1) hx hb dX1_save_3 rfl ?_
  refine s_i (va_runS (As := [.long ((nI j9).toInt64), .long 0, .long 1]) (rest := []) ⟨hx, hb, hml, hown, hts⟩ (x1_isIn Z ((nI j9).toInt64) 0 1) (va_cwS 3 hts (lw_S q332 q333 q96 q334) rfl rfl rfl (by decide +kernel) ⟨Nat.le_of_ble_eq_true rfl, Nat.le_of_ble_eq_true rfl⟩) (gP_S hG hS (fun q _ h => h.elim) trivial) rfl rfl hl.1 rfl (lv_room (Nat.le_of_ble_eq_true rfl)) dX1_save_4 ⟨by first | decide | omega | (show _ ≤ (37 : Nat); omega), by first | decide | omega | (show _ ≤ (1078 : Nat); omega)⟩) ?_
  refine e_i (y := bI true) (congrArg bI ((inL_B (nI j9) (nI 0) (nI 1)).trans (inB_r (by decide) (by omega)))) ?_
  have hF9 := va_free (wc := []) hD hS (fun q h => hA q h) [] rfl
  refine x_v (wc := []) (wr := [((xa 4), .inl (dA 5, 2, .inr (.inr (.inr (.inr kv))))), ((xa 7), .inl (dA 4, 8, .inr (.inr (.inr (.inr (fun k => some (rm k)))))))]) (vx_runS (As := [.int (bI true)]) (rest := []) ⟨hx, hb, hml, hown, hts⟩ (x1_argument Z (va_A [] s.heap.size) s.heap.size (fun q h => Or.inr h) (SS.st Y) (σ 51) (SS.st1 Y) true) (va_cwS 1 hts (lw_S q335 q336 q96 q337) rfl rfl rfl (by decide +kernel) ⟨Nat.le_of_ble_eq_true rfl, Nat.le_of_ble_eq_true rfl⟩) (gP_S hG hS (fun q _ h => hF9 q h) rfl) rfl rfl hl.1 rfl (lv_room (Nat.le_of_ble_eq_true rfl)) dX1_save_7 ⟨by first | decide | omega | (show _ ≤ (37 : Nat); omega), by first | decide | omega | (show _ ≤ (1078 : Nat); omega)⟩) hP hD hS hA [] [0, 1] rfl rfl (by decide) (by decide) (fun E ce q9 u9 t9 H locs ht9 hp9 hb9 hz hP hS h1 h2 h3 => ?_) (fun u9 H locs hq hX hz hk hP hD hS => ?_)
  · have hD := hD.sub (ws' := [((xa 4), .inl (dA 5, 2, .inr (.inr (.inr (.inr kv))))), ((xa 7), .inl (dA 4, 8, .inr (.inr (.inr (.inr (fun k => some (rm k)))))))]) [0, 1] (by decide) rfl
    have hP : va_P (dC, dI) vwCl [((xa 4), .inl (dA 5, 2, .inr (.inr (.inr (.inr kv))))), ((xa 7), .inl (dA 4, 8, .inr (.inr (.inr (.inr (fun k => some (rm k)))))))] H := hP
    have hD : va_D A [((xa 4), .inl (dA 5, 2, .inr (.inr (.inr (.inr kv))))), ((xa 7), .inl (dA 4, 8, .inr (.inr (.inr (.inr (fun k => some (rm k)))))))] := hD
    exact absurd hp9 (by decide)
  have hg7 : true = true := hq
  clear hq
  have hP : va_P (dC, dI) vwCl [((xa 4), .inl (dA 5, 2, .inr (.inr (.inr (.inr kv))))), ((xa 7), .inl (dA 4, 8, .inr (.inr (.inr (.inr (fun k => some (rm k)))))))] H := hP
  have hD : va_D A [((xa 4), .inl (dA 5, 2, .inr (.inr (.inr (.inr kv))))), ((xa 7), .inl (dA 4, 8, .inr (.inr (.inr (.inr (fun k => some (rm k)))))))] := hD
  refine lv_aload_n hx hb dX1_save_10 rfl (lv_at hl 0 rfl) ?_
  refine va_get (D := (dC, dI)) (ci := 3) (v := .ref (xa 4)) (C := RX1) (T := TX1) (N := 9) hx hb hts in_X1 hown hK (hR0.up hS) 0 rfl rfl 3 (by decide) (hts _ q288) (fun _ h9 => h9) rfl dX1_save_11 ?_
  refine lv_iload_n hx hb dX1_save_14 rfl (lv_at hl 1 rfl) ?_
  refine a_aldq hx hb hK hP 0 5 rfl rfl hj9 (by decide) dX1_save_15 ?_
  refine e_v (y := .null) (congrArg va_rf hk9) ?_
  refine lv_ifnonnullN hx hb dX1_save_16 ?_
  refine lv_aload_n hx hb dX1_save_19 rfl (lv_at hl 0 rfl) ?_
  refine va_get (D := (dC, dI)) (ci := 3) (v := .ref (xa 4)) (C := RX1) (T := TX1) (N := 9) hx hb hts in_X1 hown hK (hR0.up hS) 0 rfl rfl 3 (by decide) (hts _ q288) (fun _ h9 => h9) rfl dX1_save_20 ?_
  refine lv_iload_n hx hb dX1_save_23 rfl (lv_at hl 1 rfl) ?_
  refine va_new (D := (dC, dI)) (ci := 4) (fs := [.null, .null]) (C := RX4) (T := TX4) (N := 2) hx hb hts in_X4 tyX4 tyX4_ok hown (hts _ q177) (hts _ q178) (hts _ q100) hK hP hD hS hA rfl (fun j hj => by rcases (show j = 0 ∨ j = 1 by omega) with rfl | rfl <;> rfl) (by first | decide | omega) (by first | decide | omega) dX1_save_24 (fun nw_1 H hP hD hS => ?_)
  have hP : va_P (dC, dI) vwCl [((xa 4), .inl (dA 5, 2, .inr (.inr (.inr (.inr kv))))), ((xa 7), .inl (dA 4, 8, .inr (.inr (.inr (.inr (fun k => some (rm k))))))), (nw_1, .inr (4, [.null, .null]))] H := hP
  have hD : va_D A [((xa 4), .inl (dA 5, 2, .inr (.inr (.inr (.inr kv))))), ((xa 7), .inl (dA 4, 8, .inr (.inr (.inr (.inr (fun k => some (rm k))))))), (nw_1, .inr (4, [.null, .null]))] := hD
  refine lv_dup hx hb dX1_save_27 rfl ?_
  have hF9 := va_free (wc := [(nw_1, .inr (4, [.null, .null]))]) hD hS (fun q h => hA q h) [2] rfl
  refine c_v (wr := [((xa 4), .inl (dA 5, 2, .inr (.inr (.inr (.inr kv))))), ((xa 7), .inl (dA 4, 8, .inr (.inr (.inr (.inr (fun k => some (rm k)))))))]) (va_runIN (As := []) (rest := [.ref nw_1, .int (nI j9), .ref (xa 4)]) ⟨hx, hb, hml, hown, hts⟩ (x4_init Z (va_A [(nw_1, .inr (4, [.null, .null]))] H.size) H.size (fun q h => Or.inr h) Y nw_1) ⟨va_cnB 0 hts (lw_meth q181) rfl rfl rfl (va_Nw.warmM hG.1 (va_Nw.of rfl (Z.2.1 _ q179))) (hts _ q100) (by decide +kernel) ⟨Nat.le_of_ble_eq_true rfl, Nat.le_of_ble_eq_true rfl⟩, rfl, hts _ q180⟩ (gP_S hG hS (fun q _ h => hF9 q h) ⟨rfl, (hP.sub (ws' := [(nw_1, .inr (4, [.null, .null]))]) [2] rfl), (hD.sub (ws' := [(nw_1, .inr (4, [.null, .null]))]) [2] (by decide) rfl).self⟩) rfl rfl hl.1 rfl (lv_room (Nat.le_of_ble_eq_true rfl)) dX1_save_28 ⟨by first | decide | omega | (show _ ≤ (37 : Nat); omega), by first | decide | omega | (show _ ≤ (1078 : Nat); omega)⟩) hP hD hS hA [2] [0, 1] rfl rfl (by decide) (by decide) (fun u9 H locs hq hX hz hk hP hD hS => ?_)
  obtain ⟨wg_1, ws_1, wr_1⟩ := u9
  have hP : va_P (dC, dI) vwCl ([((xa 4), .inl (dA 5, 2, .inr (.inr (.inr (.inr kv))))), ((xa 7), .inl (dA 4, 8, .inr (.inr (.inr (.inr (fun k => some (rm k))))))), (nw_1, .inr (4, [.ref wg_1, .ref wr_1])), (wr_1, .inl (dA 4, 8, .inr (.inr (.inr (.inr (fun _ => some (σ 1))))))), (wg_1, .inr (1, [.int (nI 3), .int (nI 0), .int (nI 0), .int (nI (3 + 0 + 0)), .int (nI (2 ^ (3 + 0 + 0) - 1)), .ref ws_1])), (ws_1, .inl (dA 9, 32, .inr (.inr (.inr (.inr (fun i => some (ws_1 + 1 + i)))))))] ++ rwL (dA 0) 32 ws_1 (sgT 3 0 0) 32) H := hP
  have hD : va_D A ([((xa 4), .inl (dA 5, 2, .inr (.inr (.inr (.inr kv))))), ((xa 7), .inl (dA 4, 8, .inr (.inr (.inr (.inr (fun k => some (rm k))))))), (nw_1, .inr (4, [.ref wg_1, .ref wr_1])), (wr_1, .inl (dA 4, 8, .inr (.inr (.inr (.inr (fun _ => some (σ 1))))))), (wg_1, .inr (1, [.int (nI 3), .int (nI 0), .int (nI 0), .int (nI (3 + 0 + 0)), .int (nI (2 ^ (3 + 0 + 0) - 1)), .ref ws_1])), (ws_1, .inl (dA 9, 32, .inr (.inr (.inr (.inr (fun i => some (ws_1 + 1 + i)))))))] ++ rwL (dA 0) 32 ws_1 (sgT 3 0 0) 32) := hD
  refine a_astM hx hb hK hP hD hS 0 5 rfl rfl (any_of hK hP 2 rfl rfl) hj9 (by decide) dX1_save_31 (fun H locs hP hD hS => ?_)
  have hP : va_P (dC, dI) vwCl ([((xa 4), .inl (dA 5, 2, .inr (.inr (.inr (.inr (va_up kv j9 (some nw_1))))))), ((xa 7), .inl (dA 4, 8, .inr (.inr (.inr (.inr (fun k => some (rm k))))))), (nw_1, .inr (4, [.ref wg_1, .ref wr_1])), (wr_1, .inl (dA 4, 8, .inr (.inr (.inr (.inr (fun _ => some (σ 1))))))), (wg_1, .inr (1, [.int (nI 3), .int (nI 0), .int (nI 0), .int (nI (3 + 0 + 0)), .int (nI (2 ^ (3 + 0 + 0) - 1)), .ref ws_1])), (ws_1, .inl (dA 9, 32, .inr (.inr (.inr (.inr (fun i => some (ws_1 + 1 + i)))))))] ++ rwL (dA 0) 32 ws_1 (sgT 3 0 0) 32) H := hP
  have hD : va_D A ([((xa 4), .inl (dA 5, 2, .inr (.inr (.inr (.inr (va_up kv j9 (some nw_1))))))), ((xa 7), .inl (dA 4, 8, .inr (.inr (.inr (.inr (fun k => some (rm k))))))), (nw_1, .inr (4, [.ref wg_1, .ref wr_1])), (wr_1, .inl (dA 4, 8, .inr (.inr (.inr (.inr (fun _ => some (σ 1))))))), (wg_1, .inr (1, [.int (nI 3), .int (nI 0), .int (nI 0), .int (nI (3 + 0 + 0)), .int (nI (2 ^ (3 + 0 + 0) - 1)), .ref ws_1])), (ws_1, .inl (dA 9, 32, .inr (.inr (.inr (.inr (fun i => some (ws_1 + 1 + i)))))))] ++ rwL (dA 0) 32 ws_1 (sgT 3 0 0) 32) := hD
  refine lv_aload_n hx hb dX1_save_32 rfl (lv_at hl 0 rfl) ?_
  refine va_get (D := (dC, dI)) (ci := 3) (v := .ref (xa 4)) (C := RX1) (T := TX1) (N := 9) hx hb hts in_X1 hown hK (hR0.up hS) 0 rfl rfl 3 (by decide) (hts _ q288) (fun _ h9 => h9) rfl dX1_save_33 ?_
  refine lv_iload_n hx hb dX1_save_36 rfl (lv_at hl 1 rfl) ?_
  refine a_aldq hx hb hK hP 0 5 rfl rfl hj9 (by decide) dX1_save_37 ?_
  refine e_v (y := .ref nw_1) (congrArg va_rf (if_pos rfl)) ?_
  refine lv_aload_n hx hb dX1_save_38 rfl (lv_at hl 0 rfl) ?_
  refine va_get (D := (dC, dI)) (ci := 3) (v := .ref (xa 3)) (C := RX1) (T := TX1) (N := 9) hx hb hts in_X1 hown hK (hR0.up hS) 0 rfl rfl 2 (by decide) (hts _ q286) (fun _ h9 => h9) rfl dX1_save_39 ?_
  have hF9 := va_free (wc := [(nw_1, .inr (4, [.ref wg_1, .ref wr_1])), (wr_1, .inl (dA 4, 8, .inr (.inr (.inr (.inr (fun _ => some (σ 1))))))), ((xa 7), .inl (dA 4, 8, .inr (.inr (.inr (.inr (fun k => some (rm k)))))))]) hD hS (fun q h => hA q h) [2, 3, 1] rfl
  refine c_v (wr := ([((xa 4), .inl (dA 5, 2, .inr (.inr (.inr (.inr (va_up kv j9 (some nw_1))))))), (wg_1, .inr (1, [.int (nI 3), .int (nI 0), .int (nI 0), .int (nI (3 + 0 + 0)), .int (nI (2 ^ (3 + 0 + 0) - 1)), .ref ws_1])), (ws_1, .inl (dA 9, 32, .inr (.inr (.inr (.inr (fun i => some (ws_1 + 1 + i)))))))] ++ rwL (dA 0) 32 ws_1 (sgT 3 0 0) 32)) (va_runV (As := [.ref (xa 3)]) (rest := []) ⟨hx, hb, hml, hown, hts⟩ (x4_becomes Z (va_A [(nw_1, .inr (4, [.ref wg_1, .ref wr_1])), (wr_1, .inl (dA 4, 8, .inr (.inr (.inr (.inr (fun _ => some (σ 1))))))), ((xa 7), .inl (dA 4, 8, .inr (.inr (.inr (.inr (fun k => some (rm k)))))))] H.size) H.size (fun q h => Or.inr h) Y nw_1 wg_1 wr_1 (xa 3) ga (xa 7) (fun _ => some (σ 1)) rm rr Ms) (cwV 1 hts (lw_V q1988 q1989 q1990 q100 q1991) rfl rfl rfl (by decide +kernel) ⟨Nat.le_of_ble_eq_true rfl, Nat.le_of_ble_eq_true rfl⟩) (gP_V (va_recv hK hP (ci := 4) (q0 := 2) rfl rfl) hG hS (fun q _ h => hF9 q h) ⟨rfl, (hP.sub (ws' := [(nw_1, .inr (4, [.ref wg_1, .ref wr_1])), (wr_1, .inl (dA 4, 8, .inr (.inr (.inr (.inr (fun _ => some (σ 1))))))), ((xa 7), .inl (dA 4, 8, .inr (.inr (.inr (.inr (fun k => some (rm k)))))))]) [2, 3, 1] rfl), (hD.sub (ws' := [(nw_1, .inr (4, [.ref wg_1, .ref wr_1])), (wr_1, .inl (dA 4, 8, .inr (.inr (.inr (.inr (fun _ => some (σ 1))))))), ((xa 7), .inl (dA 4, 8, .inr (.inr (.inr (.inr (fun k => some (rm k)))))))]) [2, 3, 1] (by decide) rfl).self, ((hR0.to hS (fun q _ h => hF9 q h)).sub [1] rfl), (hRG.to hS (fun q _ h => hF9 q h))⟩) rfl rfl hl.1 rfl (lv_room (Nat.le_of_ble_eq_true rfl)) dX1_save_42 ⟨by first | decide | omega | (show _ ≤ (37 : Nat); omega), by first | decide | omega | (show _ ≤ (1078 : Nat); omega)⟩) hP hD hS hA [2, 3, 1] [0, 4, 5, 6, 7, 8, 9, 10, 11, 12, 13, 14, 15, 16, 17, 18, 19, 20, 21, 22, 23, 24, 25, 26, 27, 28, 29, 30, 31, 32, 33, 34, 35, 36, 37] rfl rfl (by decide) (by decide) (fun u9 H locs hq hX hz hk hP hD hS => ?_)
  have hP : va_P (dC, dI) vwCl ([((xa 4), .inl (dA 5, 2, .inr (.inr (.inr (.inr (va_up kv j9 (some nw_1))))))), (wg_1, .inr (1, [.int (nI 3), .int (nI 0), .int (nI 0), .int (nI (3 + 0 + 0)), .int (nI (2 ^ (3 + 0 + 0) - 1)), .ref ws_1])), (ws_1, .inl (dA 9, 32, .inr (.inr (.inr (.inr (fun i => some (ws_1 + 1 + i)))))))] ++ rwL (dA 0) 32 ws_1 (sgT 3 0 0) 32 ++ [(nw_1, .inr (4, [.ref ga, .ref wr_1])), (wr_1, .inl (dA 4, 8, .inr (.inr (.inr (.inr (fun k => some (rm k))))))), ((xa 7), .inl (dA 4, 8, .inr (.inr (.inr (.inr (fun k => some (rm k)))))))]) H := hP
  have hD : va_D A ([((xa 4), .inl (dA 5, 2, .inr (.inr (.inr (.inr (va_up kv j9 (some nw_1))))))), (wg_1, .inr (1, [.int (nI 3), .int (nI 0), .int (nI 0), .int (nI (3 + 0 + 0)), .int (nI (2 ^ (3 + 0 + 0) - 1)), .ref ws_1])), (ws_1, .inl (dA 9, 32, .inr (.inr (.inr (.inr (fun i => some (ws_1 + 1 + i)))))))] ++ rwL (dA 0) 32 ws_1 (sgT 3 0 0) 32 ++ [(nw_1, .inr (4, [.ref ga, .ref wr_1])), (wr_1, .inl (dA 4, 8, .inr (.inr (.inr (.inr (fun k => some (rm k))))))), ((xa 7), .inl (dA 4, 8, .inr (.inr (.inr (.inr (fun k => some (rm k)))))))]) := hD
  have hP := hP.sub (ws' := ([((xa 4), .inl (dA 5, 2, .inr (.inr (.inr (.inr (va_up kv j9 (some nw_1))))))), (wg_1, .inr (1, [.int (nI 3), .int (nI 0), .int (nI 0), .int (nI (3 + 0 + 0)), .int (nI (2 ^ (3 + 0 + 0) - 1)), .ref ws_1])), (ws_1, .inl (dA 9, 32, .inr (.inr (.inr (.inr (fun i => some (ws_1 + 1 + i))))))), (nw_1, .inr (4, [.ref ga, .ref wr_1])), (wr_1, .inl (dA 4, 8, .inr (.inr (.inr (.inr (fun k => some (rm k))))))), ((xa 7), .inl (dA 4, 8, .inr (.inr (.inr (.inr (fun k => some (rm k)))))))] ++ rwL (dA 0) 32 ws_1 (sgT 3 0 0) 32)) [0, 1, 2, 35, 36, 37, 3, 4, 5, 6, 7, 8, 9, 10, 11, 12, 13, 14, 15, 16, 17, 18, 19, 20, 21, 22, 23, 24, 25, 26, 27, 28, 29, 30, 31, 32, 33, 34] rfl
  have hD := hD.sub (ws' := ([((xa 4), .inl (dA 5, 2, .inr (.inr (.inr (.inr (va_up kv j9 (some nw_1))))))), (wg_1, .inr (1, [.int (nI 3), .int (nI 0), .int (nI 0), .int (nI (3 + 0 + 0)), .int (nI (2 ^ (3 + 0 + 0) - 1)), .ref ws_1])), (ws_1, .inl (dA 9, 32, .inr (.inr (.inr (.inr (fun i => some (ws_1 + 1 + i))))))), (nw_1, .inr (4, [.ref ga, .ref wr_1])), (wr_1, .inl (dA 4, 8, .inr (.inr (.inr (.inr (fun k => some (rm k))))))), ((xa 7), .inl (dA 4, 8, .inr (.inr (.inr (.inr (fun k => some (rm k)))))))] ++ rwL (dA 0) 32 ws_1 (sgT 3 0 0) 32)) [0, 1, 2, 35, 36, 37, 3, 4, 5, 6, 7, 8, 9, 10, 11, 12, 13, 14, 15, 16, 17, 18, 19, 20, 21, 22, 23, 24, 25, 26, 27, 28, 29, 30, 31, 32, 33, 34] (by decide) rfl
  subst hQe
  refine vx_ret ?_
  refine W.widen (k := 37) (n := 1078) (by first | decide | omega) (by first | decide | omega) ?_
  exact W.vret hx hb hr (fun tz ht hW => ⟨⟨(nw_1, wr_1), rfl, trivial, B1_at ht (hP.sub [0, 5, 3, 4] rfl) (hD.sub [0, 5, 3, 4] (by decide) rfl) trivial⟩, hS.F ht⟩) hS.2.2 dX1_save_45
set_option maxHeartbeats 4000000 in
theorem x1_save_w {l : Launch} {dC : Nat → ClassId} {dI : Nat → Nat → Nat} {dA : Nat → ClassId} {s0 : State} {b0 : Addr} (Z : Z0 l dC dI dA s0 b0) (A : Nat → Prop) (sz : Nat) (hA : ∀ q : Nat, sz ≤ q → A q) {σ : Nat → Nat} (Y : SS (dC, dI) dA σ s0) (xa : Nat → Nat) (tl : Nat) (ec ep : Int32) (ga : Nat) (rm rr : Nat → Nat) (Ms : Nat → MV) (kv : Nat → Option Nat) (j9 : Nat) (kw ka kr : Nat) (fk : Nat → Option Nat) (hj9 : j9 < 2) (hk9 : kv j9 = some kw) : vx_Met l yX1_save (ws_ yX1_save cX1_save 2 none) ({ frames := 8, cells := 1, slots := 6, locals := 480 } : Room) (gP [.ref (xa 0), .int (nI j9)] s0 A (fun H => H.size = sz ∧ va_P (dC, dI) vwCl [((xa 7), .inl (dA 4, 8, .inr (.inr (.inr (.inr (fun k => some (rm k))))))), (kw, .inr (4, [.ref ka, .ref kr])), (kr, .inl (dA 4, 8, .inr (.inr (.inr (.inr fk)))))] H ∧ va_D A [((xa 7), .inl (dA 4, 8, .inr (.inr (.inr (.inr (fun k => some (rm k))))))), (kw, .inr (4, [.ref ka, .ref kr])), (kr, .inl (dA 4, 8, .inr (.inr (.inr (.inr fk)))))] ∧ RO A (dC, dI) [((xa 0), .inr (3, xFs xa tl ec ep)), ((xa 3), .inr (4, [.ref ga, .ref (xa 7)]))] H ∧ RO A (dC, dI) [((xa 4), .inl (dA 5, 2, .inr (.inr (.inr (.inr kv)))))] H ∧ RG A (dC, dI) dA rm rr Ms H)) (va_Qv (S := Unit) (fun _ => True) (B1 (dC, dI) A (fun _ => [((xa 7), .inl (dA 4, 8, .inr (.inr (.inr (.inr (fun k => some (rm k))))))), (kw, .inr (4, [.ref ga, .ref kr])), (kr, .inl (dA 4, 8, .inr (.inr (.inr (.inr (fun k => some (rm k)))))))]) (fun _ _ => True)) A) (vx_X (S := Unit) (fun _ => False) (fun _ _ _ _ => True) A) 1 6 A := by
  refine vx_ofW (cc := cX1_save) (maxL := 2) (ret := none) (by decide) rfl ?_
  intro p e s m args below meth c s₁ B hml hnoH hv
  obtain ⟨hav, hG, hsz, hP, hD, hR0, hR1, hRG⟩ := hv
  have hx := B.exec
  have hb := B.bytes
  have hr := B.returns
  have hts := atoms_spec (ws := (ws_ yX1_save cX1_save 2 none)) B.pre
  have hts : ∀ w ∈ lw_all, w.before _ s = true := fun w h => hts w (List.mem_cons_of_mem _ h)
  have hown : s.vm.findClass RX1 = some m.cls := findClass_of_methodNamed B.named
  have hlocks := B.notSynchronized
  have hK := hG.K Z
  subst hsz
  have hS : va_S A s.heap s.heap [] := va_S.rf
  have hl := lv_entry ([.ref (xa 0), .int (nI j9)]) (n := 2) (Nat.le_of_ble_eq_true rfl)
  rw [show entryFrame m args 2 = entryFrame m ([.ref (xa 0), .int (nI j9)] : List Value).toArray 2 from by rw [hav], lg_entry_eq]
  generalize (lg_sl ([.ref (xa 0), .int (nI j9)]) ++ List.replicate (2 - (lg_sl ([.ref (xa 0), .int (nI j9)])).length) Slot.unset).toArray = ls at hl ⊢
  have hl : lv_has ls 2 [(0, .ref (xa 0)), (1, .int (nI j9))] := hl
  generalize hQe : vx_MQ below _ _ _ s _ _ _ = Q
  change W p l e ({ frames := 8, cells := 1, slots := 6, locals := 480 } : Room) s m args below meth c s.heap [] 0 0 Q (F0 m 0 ls [])
  refine lv_iload_n hx hb dX1_save_0 rfl (lv_at hl 1 rfl) ?_
  refine lv_i2l (v := (nI j9).toInt64) hx hb dX1_save_1 rfl ?_
  refine lv_lconst (v := 0) hx hb dX1_save_2 rfl ?_
  refine lv_lconst (v := 1) hx hb dX1_save_3 rfl ?_
  refine s_i (va_runS (As := [.long ((nI j9).toInt64), .long 0, .long 1]) (rest := []) ⟨hx, hb, hml, hown, hts⟩ (x1_isIn Z ((nI j9).toInt64) 0 1) (va_cwS 3 hts (lw_S q332 q333 q96 q334) rfl rfl rfl (by decide +kernel) ⟨Nat.le_of_ble_eq_true rfl, Nat.le_of_ble_eq_true rfl⟩) (gP_S hG hS (fun q _ h => h.elim) trivial) rfl rfl hl.1 rfl (lv_room (Nat.le_of_ble_eq_true rfl)) dX1_save_4 ⟨by first | decide | omega | (show _ ≤ (1 : Nat); omega), by first | decide | omega | (show _ ≤ (6 : Nat); omega)⟩) ?_
  refine e_i (y := bI true) (congrArg bI ((inL_B (nI j9) (nI 0) (nI 1)).trans (inB_r (by decide) (by omega)))) ?_
  have hF9 := va_free (wc := []) hD hS (fun q h => hA q h) [] rfl
  refine x_v (wc := []) (wr := [((xa 7), .inl (dA 4, 8, .inr (.inr (.inr (.inr (fun k => some (rm k))))))), (kw, .inr (4, [.ref ka, .ref kr])), (kr, .inl (dA 4, 8, .inr (.inr (.inr (.inr fk)))))]) (vx_runS (As := [.int (bI true)]) (rest := []) ⟨hx, hb, hml, hown, hts⟩ (x1_argument Z (va_A [] s.heap.size) s.heap.size (fun q h => Or.inr h) (SS.st Y) (σ 51) (SS.st1 Y) true) (va_cwS 1 hts (lw_S q335 q336 q96 q337) rfl rfl rfl (by decide +kernel) ⟨Nat.le_of_ble_eq_true rfl, Nat.le_of_ble_eq_true rfl⟩) (gP_S hG hS (fun q _ h => hF9 q h) rfl) rfl rfl hl.1 rfl (lv_room (Nat.le_of_ble_eq_true rfl)) dX1_save_7 ⟨by first | decide | omega | (show _ ≤ (1 : Nat); omega), by first | decide | omega | (show _ ≤ (6 : Nat); omega)⟩) hP hD hS hA [] [0, 1, 2] rfl rfl (by decide) (by decide) (fun E ce q9 u9 t9 H locs ht9 hp9 hb9 hz hP hS h1 h2 h3 => ?_) (fun u9 H locs hq hX hz hk hP hD hS => ?_)
  · have hD := hD.sub (ws' := [((xa 7), .inl (dA 4, 8, .inr (.inr (.inr (.inr (fun k => some (rm k))))))), (kw, .inr (4, [.ref ka, .ref kr])), (kr, .inl (dA 4, 8, .inr (.inr (.inr (.inr fk)))))]) [0, 1, 2] (by decide) rfl
    have hP : va_P (dC, dI) vwCl [((xa 7), .inl (dA 4, 8, .inr (.inr (.inr (.inr (fun k => some (rm k))))))), (kw, .inr (4, [.ref ka, .ref kr])), (kr, .inl (dA 4, 8, .inr (.inr (.inr (.inr fk)))))] H := hP
    have hD : va_D A [((xa 7), .inl (dA 4, 8, .inr (.inr (.inr (.inr (fun k => some (rm k))))))), (kw, .inr (4, [.ref ka, .ref kr])), (kr, .inl (dA 4, 8, .inr (.inr (.inr (.inr fk)))))] := hD
    exact absurd hp9 (by decide)
  have hg7 : true = true := hq
  clear hq
  have hP : va_P (dC, dI) vwCl [((xa 7), .inl (dA 4, 8, .inr (.inr (.inr (.inr (fun k => some (rm k))))))), (kw, .inr (4, [.ref ka, .ref kr])), (kr, .inl (dA 4, 8, .inr (.inr (.inr (.inr fk)))))] H := hP
  have hD : va_D A [((xa 7), .inl (dA 4, 8, .inr (.inr (.inr (.inr (fun k => some (rm k))))))), (kw, .inr (4, [.ref ka, .ref kr])), (kr, .inl (dA 4, 8, .inr (.inr (.inr (.inr fk)))))] := hD
  refine lv_aload_n hx hb dX1_save_10 rfl (lv_at hl 0 rfl) ?_
  refine va_get (D := (dC, dI)) (ci := 3) (v := .ref (xa 4)) (C := RX1) (T := TX1) (N := 9) hx hb hts in_X1 hown hK (hR0.up hS) 0 rfl rfl 3 (by decide) (hts _ q288) (fun _ h9 => h9) rfl dX1_save_11 ?_
  refine lv_iload_n hx hb dX1_save_14 rfl (lv_at hl 1 rfl) ?_
  refine a_aldq hx hb hK (hR1.up hS) 0 5 rfl rfl hj9 (by decide) dX1_save_15 ?_
  refine e_v (y := .ref kw) (congrArg va_rf hk9) ?_
  refine lv_ifnonnull (tgt := 32) hx hb dX1_save_16 (by decide) ?_
  refine lv_aload_n hx hb dX1_save_32 rfl (lv_at hl 0 rfl) ?_
  refine va_get (D := (dC, dI)) (ci := 3) (v := .ref (xa 4)) (C := RX1) (T := TX1) (N := 9) hx hb hts in_X1 hown hK (hR0.up hS) 0 rfl rfl 3 (by decide) (hts _ q288) (fun _ h9 => h9) rfl dX1_save_33 ?_
  refine lv_iload_n hx hb dX1_save_36 rfl (lv_at hl 1 rfl) ?_
  refine a_aldq hx hb hK (hR1.up hS) 0 5 rfl rfl hj9 (by decide) dX1_save_37 ?_
  refine e_v (y := .ref kw) (congrArg va_rf hk9) ?_
  refine lv_aload_n hx hb dX1_save_38 rfl (lv_at hl 0 rfl) ?_
  refine va_get (D := (dC, dI)) (ci := 3) (v := .ref (xa 3)) (C := RX1) (T := TX1) (N := 9) hx hb hts in_X1 hown hK (hR0.up hS) 0 rfl rfl 2 (by decide) (hts _ q286) (fun _ h9 => h9) rfl dX1_save_39 ?_
  have hF9 := va_free (wc := [(kw, .inr (4, [.ref ka, .ref kr])), (kr, .inl (dA 4, 8, .inr (.inr (.inr (.inr fk))))), ((xa 7), .inl (dA 4, 8, .inr (.inr (.inr (.inr (fun k => some (rm k)))))))]) hD hS (fun q h => hA q h) [1, 2, 0] rfl
  refine c_v (wr := []) (va_runV (As := [.ref (xa 3)]) (rest := []) ⟨hx, hb, hml, hown, hts⟩ (x4_becomes Z (va_A [(kw, .inr (4, [.ref ka, .ref kr])), (kr, .inl (dA 4, 8, .inr (.inr (.inr (.inr fk))))), ((xa 7), .inl (dA 4, 8, .inr (.inr (.inr (.inr (fun k => some (rm k)))))))] H.size) H.size (fun q h => Or.inr h) Y kw ka kr (xa 3) ga (xa 7) fk rm rr Ms) (cwV 1 hts (lw_V q1988 q1989 q1990 q100 q1991) rfl rfl rfl (by decide +kernel) ⟨Nat.le_of_ble_eq_true rfl, Nat.le_of_ble_eq_true rfl⟩) (gP_V (va_recv hK hP (ci := 4) (q0 := 1) rfl rfl) hG hS (fun q _ h => hF9 q h) ⟨rfl, (hP.sub (ws' := [(kw, .inr (4, [.ref ka, .ref kr])), (kr, .inl (dA 4, 8, .inr (.inr (.inr (.inr fk))))), ((xa 7), .inl (dA 4, 8, .inr (.inr (.inr (.inr (fun k => some (rm k)))))))]) [1, 2, 0] rfl), (hD.sub (ws' := [(kw, .inr (4, [.ref ka, .ref kr])), (kr, .inl (dA 4, 8, .inr (.inr (.inr (.inr fk))))), ((xa 7), .inl (dA 4, 8, .inr (.inr (.inr (.inr (fun k => some (rm k)))))))]) [1, 2, 0] (by decide) rfl).self, ((hR0.to hS (fun q _ h => hF9 q h)).sub [1] rfl), (hRG.to hS (fun q _ h => hF9 q h))⟩) rfl rfl hl.1 rfl (lv_room (Nat.le_of_ble_eq_true rfl)) dX1_save_42 ⟨by first | decide | omega | (show _ ≤ (1 : Nat); omega), by first | decide | omega | (show _ ≤ (6 : Nat); omega)⟩) hP hD hS hA [1, 2, 0] [] rfl rfl (by decide) (by decide) (fun u9 H locs hq hX hz hk hP hD hS => ?_)
  have hP : va_P (dC, dI) vwCl [(kw, .inr (4, [.ref ga, .ref kr])), (kr, .inl (dA 4, 8, .inr (.inr (.inr (.inr (fun k => some (rm k))))))), ((xa 7), .inl (dA 4, 8, .inr (.inr (.inr (.inr (fun k => some (rm k)))))))] H := hP
  have hD : va_D A [(kw, .inr (4, [.ref ga, .ref kr])), (kr, .inl (dA 4, 8, .inr (.inr (.inr (.inr (fun k => some (rm k))))))), ((xa 7), .inl (dA 4, 8, .inr (.inr (.inr (.inr (fun k => some (rm k)))))))] := hD
  subst hQe
  refine vx_ret ?_
  refine W.widen (k := 1) (n := 6) (by first | decide | omega) (by first | decide | omega) ?_
  exact W.vret hx hb hr (fun tz ht hW => ⟨⟨(), rfl, trivial, B1_at ht (hP.sub [2, 0, 1] rfl) (hD.sub [2, 0, 1] (by decide) rfl) trivial⟩, hS.F ht⟩) hS.2.2 dX1_save_45
set_option maxHeartbeats 4000000 in
theorem x1_restore_n {l : Launch} {dC : Nat → ClassId} {dI : Nat → Nat → Nat} {dA : Nat → ClassId} {s0 : State} {b0 : Addr} (Z : Z0 l dC dI dA s0 b0) (A : Nat → Prop) (sz : Nat) (hA : ∀ q : Nat, sz ≤ q → A q) {σ : Nat → Nat} (Y : SS (dC, dI) dA σ s0) (xa : Nat → Nat) (tl : Nat) (ec ep : Int32) (kv : Nat → Option Nat) (j9 : Nat) (hj9 : j9 < 2) (hk9 : kv j9 = none) : vx_Met l yX1_restore (ws_ yX1_restore cX1_restore 2 none) ({ frames := 8, cells := 2, slots := 12, locals := 480 } : Room) (gP [.ref (xa 0), .int (nI j9)] s0 A (fun H => H.size = sz ∧ RO A (dC, dI) [((xa 0), .inr (3, xFs xa tl ec ep))] H ∧ RO A (dC, dI) [((xa 4), .inl (dA 5, 2, .inr (.inr (.inr (.inr kv)))))] H)) (va_Qv (S := Unit) (fun _ => False) (B1 (dC, dI) A (fun _ => []) (fun _ _ => True)) A) (vx_X (S := Unit) (fun _ => True) (fun _ E _ _ => E = "java/lang/IllegalStateException") A) 2 12 A := by
  refine vx_ofW (cc := cX1_restore) (maxL := 2) (ret := none) (by decide) rfl ?_
  intro p e s m args below meth c s₁ B hml hnoH hv
  obtain ⟨hav, hG, hsz, hR0, hR1⟩ := hv
  have hx := B.exec
  have hb := B.bytes
  have hr := B.returns
  have hts := atoms_spec (ws := (ws_ yX1_restore cX1_restore 2 none)) B.pre
  have hts : ∀ w ∈ lw_all, w.before _ s = true := fun w h => hts w (List.mem_cons_of_mem _ h)
  have hown : s.vm.findClass RX1 = some m.cls := findClass_of_methodNamed B.named
  have hlocks := B.notSynchronized
  have hK := hG.K Z
  subst hsz
  have hS : va_S A s.heap s.heap [] := va_S.rf
  have hP : va_P (dC, dI) vwCl [] s.heap := fun k q h => by simp at h
  have hD : va_D A [] := ⟨fun i j p q h => by simp at h, fun k q h => by simp at h⟩
  have hl := lv_entry ([.ref (xa 0), .int (nI j9)]) (n := 2) (Nat.le_of_ble_eq_true rfl)
  rw [show entryFrame m args 2 = entryFrame m ([.ref (xa 0), .int (nI j9)] : List Value).toArray 2 from by rw [hav], lg_entry_eq]
  generalize (lg_sl ([.ref (xa 0), .int (nI j9)]) ++ List.replicate (2 - (lg_sl ([.ref (xa 0), .int (nI j9)])).length) Slot.unset).toArray = ls at hl ⊢
  have hl : lv_has ls 2 [(0, .ref (xa 0)), (1, .int (nI j9))] := hl
  generalize hQe : vx_MQ below _ _ _ s _ _ _ = Q
  change W p l e ({ frames := 8, cells := 2, slots := 12, locals := 480 } : Room) s m args below meth c s.heap [] 0 0 Q (F0 m 0 ls [])
  refine lv_iload_n hx hb dX1_restore_0 rfl (lv_at hl 1 rfl) ?_
  refine lv_i2l (v := (nI j9).toInt64) hx hb dX1_restore_1 rfl ?_
  refine lv_lconst (v := 0) hx hb dX1_restore_2 rfl ?_
  refine lv_lconst (v := 1) hx hb dX1_restore_3 rfl ?_
  refine s_i (va_runS (As := [.long ((nI j9).toInt64), .long 0, .long 1]) (rest := []) ⟨hx, hb, hml, hown, hts⟩ (x1_isIn Z ((nI j9).toInt64) 0 1) (va_cwS 3 hts (lw_S q332 q333 q96 q334) rfl rfl rfl (by decide +kernel) ⟨Nat.le_of_ble_eq_true rfl, Nat.le_of_ble_eq_true rfl⟩) (gP_S hG hS (fun q _ h => h.elim) trivial) rfl rfl hl.1 rfl (lv_room (Nat.le_of_ble_eq_true rfl)) dX1_restore_4 ⟨by first | decide | omega | (show _ ≤ (2 : Nat); omega), by first | decide | omega | (show _ ≤ (12 : Nat); omega)⟩) ?_
  refine e_i (y := bI true) (congrArg bI ((inL_B (nI j9) (nI 0) (nI 1)).trans (inB_r (by decide) (by omega)))) ?_
  have hF9 := va_free (wc := []) hD hS (fun q h => hA q h) [] rfl
  refine x_v (wc := []) (wr := []) (vx_runS (As := [.int (bI true)]) (rest := []) ⟨hx, hb, hml, hown, hts⟩ (x1_argument Z (va_A [] s.heap.size) s.heap.size (fun q h => Or.inr h) (SS.st Y) (σ 51) (SS.st1 Y) true) (va_cwS 1 hts (lw_S q335 q336 q96 q337) rfl rfl rfl (by decide +kernel) ⟨Nat.le_of_ble_eq_true rfl, Nat.le_of_ble_eq_true rfl⟩) (gP_S hG hS (fun q _ h => hF9 q h) rfl) rfl rfl hl.1 rfl (lv_room (Nat.le_of_ble_eq_true rfl)) dX1_restore_7 ⟨by first | decide | omega | (show _ ≤ (2 : Nat); omega), by first | decide | omega | (show _ ≤ (12 : Nat); omega)⟩) hP hD hS hA [] [] rfl rfl (by decide) (by decide) (fun E ce q9 u9 t9 H locs ht9 hp9 hb9 hz hP hS h1 h2 h3 => ?_) (fun u9 H locs hq hX hz hk hP hD hS => ?_)
  · have hD := hD.sub (ws' := []) [] (by decide) rfl
    have hP : va_P (dC, dI) vwCl [] H := hP
    have hD : va_D A [] := hD
    exact absurd hp9 (by decide)
  have hg7 : true = true := hq
  clear hq
  have hP : va_P (dC, dI) vwCl [] H := hP
  have hD : va_D A [] := hD
  refine lv_aload_n hx hb dX1_restore_10 rfl (lv_at hl 0 rfl) ?_
  refine va_get (D := (dC, dI)) (ci := 3) (v := .ref (xa 4)) (C := RX1) (T := TX1) (N := 9) hx hb hts in_X1 hown hK (hR0.up hS) 0 rfl rfl 3 (by decide) (hts _ q288) (fun _ h9 => h9) rfl dX1_restore_11 ?_
  refine lv_iload_n hx hb dX1_restore_14 rfl (lv_at hl 1 rfl) ?_
  refine a_aldq hx hb hK (hR1.up hS) 0 5 rfl rfl hj9 (by decide) dX1_restore_15 ?_
  refine e_v (y := .null) (congrArg va_rf hk9) ?_
  refine lv_ifnullN (tgt := 23) hx hb dX1_restore_16 (by decide) ?_
  refine lv_iconst (v := nI 0) hx hb dX1_restore_23 (by decide) ?_
  have hF9 := va_free (wc := []) hD hS (fun q h => hA q h) [] rfl
  refine x_v (wc := []) (wr := []) (vx_runS (As := [.int (nI 0)]) (rest := []) ⟨hx, hb, hml, hown, hts⟩ (x1_possible Z (va_A [] H.size) H.size (fun q h => Or.inr h) (SS.st Y) (σ 52) (SS.st2 Y) false) (va_cwS 1 hts (lw_S q891 q776 q96 q777) rfl rfl rfl (by decide +kernel) ⟨Nat.le_of_ble_eq_true rfl, Nat.le_of_ble_eq_true rfl⟩) (gP_S hG hS (fun q _ h => hF9 q h) rfl) rfl rfl hl.1 rfl (lv_room (Nat.le_of_ble_eq_true rfl)) dX1_restore_24 ⟨by first | decide | omega | (show _ ≤ (2 : Nat); omega), by first | decide | omega | (show _ ≤ (12 : Nat); omega)⟩) hP hD hS hA [] [] rfl rfl (by decide) (by decide) (fun E ce q9 u9 t9 H locs ht9 hp9 hb9 hz hP hS h1 h2 h3 => ?_) (fun u9 H locs hq hX hz hk hP hD hS => ?_)
  · have hD := hD.sub (ws' := []) [] (by decide) rfl
    have hP : va_P (dC, dI) vwCl [] H := hP
    have hD : va_D A [] := hD
    subst hb9
    subst hQe
    exact vx_out (fun x h => (hnoH x h).elim) hlocks h1 h2 h3 (fun t10 e10 _ => ⟨(), trivial, rfl, hS.F e10⟩) hS.2.2 (by first | decide | omega) (by first | decide | omega)
  exact absurd hq (by decide)
set_option maxHeartbeats 4000000 in
theorem x1_restore_w {l : Launch} {dC : Nat → ClassId} {dI : Nat → Nat → Nat} {dA : Nat → ClassId} {s0 : State} {b0 : Addr} (Z : Z0 l dC dI dA s0 b0) (A : Nat → Prop) (sz : Nat) (hA : ∀ q : Nat, sz ≤ q → A q) {σ : Nat → Nat} (Y : SS (dC, dI) dA σ s0) (xa : Nat → Nat) (tl : Nat) (ec ep : Int32) (ga : Nat) (fr : Nat → Option Nat) (km kn : Nat → Nat) (Ks : Nat → MV) (kv : Nat → Option Nat) (j9 kw ka kr : Nat) (hj9 : j9 < 2) (hk9 : kv j9 = some kw) : vx_Met l yX1_restore (ws_ yX1_restore cX1_restore 2 none) ({ frames := 8, cells := 2, slots := 12, locals := 480 } : Room) (gP [.ref (xa 0), .int (nI j9)] s0 A (fun H => H.size = sz ∧ va_P (dC, dI) vwCl [((xa 3), .inr (4, [.ref ga, .ref (xa 7)])), ((xa 7), .inl (dA 4, 8, .inr (.inr (.inr (.inr fr))))), (kr, .inl (dA 4, 8, .inr (.inr (.inr (.inr (fun k => some (km k)))))))] H ∧ va_D A [((xa 3), .inr (4, [.ref ga, .ref (xa 7)])), ((xa 7), .inl (dA 4, 8, .inr (.inr (.inr (.inr fr))))), (kr, .inl (dA 4, 8, .inr (.inr (.inr (.inr (fun k => some (km k)))))))] ∧ RO A (dC, dI) [((xa 0), .inr (3, xFs xa tl ec ep))] H ∧ RO A (dC, dI) [((xa 4), .inl (dA 5, 2, .inr (.inr (.inr (.inr kv)))))] H ∧ RO A (dC, dI) [(kw, .inr (4, [.ref ka, .ref kr]))] H ∧ RG A (dC, dI) dA km kn Ks H)) (va_Qv (S := Unit) (fun _ => True) (B1 (dC, dI) A (fun _ => [((xa 3), .inr (4, [.ref ka, .ref (xa 7)])), ((xa 7), .inl (dA 4, 8, .inr (.inr (.inr (.inr (fun k => some (km k))))))), (kr, .inl (dA 4, 8, .inr (.inr (.inr (.inr (fun k => some (km k)))))))]) (fun _ _ => True)) A) (vx_X (S := Unit) (fun _ => False) (fun _ _ _ _ => True) A) 2 12 A := by
  refine vx_ofW (cc := cX1_restore) (maxL := 2) (ret := none) (by decide) rfl ?_
  intro p e s m args below meth c s₁ B hml hnoH hv
  obtain ⟨hav, hG, hsz, hP, hD, hR0, hR1, hR2, hRG⟩ := hv
  have hx := B.exec
  have hb := B.bytes
  have hr := B.returns
  have hts := atoms_spec (ws := (ws_ yX1_restore cX1_restore 2 none)) B.pre
  have hts : ∀ w ∈ lw_all, w.before _ s = true := fun w h => hts w (List.mem_cons_of_mem _ h)
  have hown : s.vm.findClass RX1 = some m.cls := findClass_of_methodNamed B.named
  have hlocks := B.notSynchronized
  have hK := hG.K Z
  subst hsz
  have hS : va_S A s.heap s.heap [] := va_S.rf
  have hl := lv_entry ([.ref (xa 0), .int (nI j9)]) (n := 2) (Nat.le_of_ble_eq_true rfl)
  rw [show entryFrame m args 2 = entryFrame m ([.ref (xa 0), .int (nI j9)] : List Value).toArray 2 from by rw [hav], lg_entry_eq]
  generalize (lg_sl ([.ref (xa 0), .int (nI j9)]) ++ List.replicate (2 - (lg_sl ([.ref (xa 0), .int (nI j9)])).length) Slot.unset).toArray = ls at hl ⊢
  have hl : lv_has ls 2 [(0, .ref (xa 0)), (1, .int (nI j9))] := hl
  generalize hQe : vx_MQ below _ _ _ s _ _ _ = Q
  change W p l e ({ frames := 8, cells := 2, slots := 12, locals := 480 } : Room) s m args below meth c s.heap [] 0 0 Q (F0 m 0 ls [])
  refine lv_iload_n hx hb dX1_restore_0 rfl (lv_at hl 1 rfl) ?_
  refine lv_i2l (v := (nI j9).toInt64) hx hb dX1_restore_1 rfl ?_
  refine lv_lconst (v := 0) hx hb dX1_restore_2 rfl ?_
  refine lv_lconst (v := 1) hx hb dX1_restore_3 rfl ?_
  refine s_i (va_runS (As := [.long ((nI j9).toInt64), .long 0, .long 1]) (rest := []) ⟨hx, hb, hml, hown, hts⟩ (x1_isIn Z ((nI j9).toInt64) 0 1) (va_cwS 3 hts (lw_S q332 q333 q96 q334) rfl rfl rfl (by decide +kernel) ⟨Nat.le_of_ble_eq_true rfl, Nat.le_of_ble_eq_true rfl⟩) (gP_S hG hS (fun q _ h => h.elim) trivial) rfl rfl hl.1 rfl (lv_room (Nat.le_of_ble_eq_true rfl)) dX1_restore_4 ⟨by first | decide | omega | (show _ ≤ (2 : Nat); omega), by first | decide | omega | (show _ ≤ (12 : Nat); omega)⟩) ?_
  refine e_i (y := bI true) (congrArg bI ((inL_B (nI j9) (nI 0) (nI 1)).trans (inB_r (by decide) (by omega)))) ?_
  have hF9 := va_free (wc := []) hD hS (fun q h => hA q h) [] rfl
  refine x_v (wc := []) (wr := [((xa 3), .inr (4, [.ref ga, .ref (xa 7)])), ((xa 7), .inl (dA 4, 8, .inr (.inr (.inr (.inr fr))))), (kr, .inl (dA 4, 8, .inr (.inr (.inr (.inr (fun k => some (km k)))))))]) (vx_runS (As := [.int (bI true)]) (rest := []) ⟨hx, hb, hml, hown, hts⟩ (x1_argument Z (va_A [] s.heap.size) s.heap.size (fun q h => Or.inr h) (SS.st Y) (σ 51) (SS.st1 Y) true) (va_cwS 1 hts (lw_S q335 q336 q96 q337) rfl rfl rfl (by decide +kernel) ⟨Nat.le_of_ble_eq_true rfl, Nat.le_of_ble_eq_true rfl⟩) (gP_S hG hS (fun q _ h => hF9 q h) rfl) rfl rfl hl.1 rfl (lv_room (Nat.le_of_ble_eq_true rfl)) dX1_restore_7 ⟨by first | decide | omega | (show _ ≤ (2 : Nat); omega), by first | decide | omega | (show _ ≤ (12 : Nat); omega)⟩) hP hD hS hA [] [0, 1, 2] rfl rfl (by decide) (by decide) (fun E ce q9 u9 t9 H locs ht9 hp9 hb9 hz hP hS h1 h2 h3 => ?_) (fun u9 H locs hq hX hz hk hP hD hS => ?_)
  · have hD := hD.sub (ws' := [((xa 3), .inr (4, [.ref ga, .ref (xa 7)])), ((xa 7), .inl (dA 4, 8, .inr (.inr (.inr (.inr fr))))), (kr, .inl (dA 4, 8, .inr (.inr (.inr (.inr (fun k => some (km k)))))))]) [0, 1, 2] (by decide) rfl
    have hP : va_P (dC, dI) vwCl [((xa 3), .inr (4, [.ref ga, .ref (xa 7)])), ((xa 7), .inl (dA 4, 8, .inr (.inr (.inr (.inr fr))))), (kr, .inl (dA 4, 8, .inr (.inr (.inr (.inr (fun k => some (km k)))))))] H := hP
    have hD : va_D A [((xa 3), .inr (4, [.ref ga, .ref (xa 7)])), ((xa 7), .inl (dA 4, 8, .inr (.inr (.inr (.inr fr))))), (kr, .inl (dA 4, 8, .inr (.inr (.inr (.inr (fun k => some (km k)))))))] := hD
    exact absurd hp9 (by decide)
  have hg7 : true = true := hq
  clear hq
  have hP : va_P (dC, dI) vwCl [((xa 3), .inr (4, [.ref ga, .ref (xa 7)])), ((xa 7), .inl (dA 4, 8, .inr (.inr (.inr (.inr fr))))), (kr, .inl (dA 4, 8, .inr (.inr (.inr (.inr (fun k => some (km k)))))))] H := hP
  have hD : va_D A [((xa 3), .inr (4, [.ref ga, .ref (xa 7)])), ((xa 7), .inl (dA 4, 8, .inr (.inr (.inr (.inr fr))))), (kr, .inl (dA 4, 8, .inr (.inr (.inr (.inr (fun k => some (km k)))))))] := hD
  refine lv_aload_n hx hb dX1_restore_10 rfl (lv_at hl 0 rfl) ?_
  refine va_get (D := (dC, dI)) (ci := 3) (v := .ref (xa 4)) (C := RX1) (T := TX1) (N := 9) hx hb hts in_X1 hown hK (hR0.up hS) 0 rfl rfl 3 (by decide) (hts _ q288) (fun _ h9 => h9) rfl dX1_restore_11 ?_
  refine lv_iload_n hx hb dX1_restore_14 rfl (lv_at hl 1 rfl) ?_
  refine a_aldq hx hb hK (hR1.up hS) 0 5 rfl rfl hj9 (by decide) dX1_restore_15 ?_
  refine e_v (y := .ref kw) (congrArg va_rf hk9) ?_
  refine lv_ifnull hx hb dX1_restore_16 ?_
  refine lv_iconst (v := nI 1) hx hb dX1_restore_19 (by decide) ?_
  refine lv_goto (tgt := 24) hx hb dX1_restore_20 (by decide) ?_
  have hF9 := va_free (wc := []) hD hS (fun q h => hA q h) [] rfl
  refine x_v (wc := []) (wr := [((xa 3), .inr (4, [.ref ga, .ref (xa 7)])), ((xa 7), .inl (dA 4, 8, .inr (.inr (.inr (.inr fr))))), (kr, .inl (dA 4, 8, .inr (.inr (.inr (.inr (fun k => some (km k)))))))]) (vx_runS (As := [.int (nI 1)]) (rest := []) ⟨hx, hb, hml, hown, hts⟩ (x1_possible Z (va_A [] H.size) H.size (fun q h => Or.inr h) (SS.st Y) (σ 52) (SS.st2 Y) true) (va_cwS 1 hts (lw_S q891 q776 q96 q777) rfl rfl rfl (by decide +kernel) ⟨Nat.le_of_ble_eq_true rfl, Nat.le_of_ble_eq_true rfl⟩) (gP_S hG hS (fun q _ h => hF9 q h) rfl) rfl rfl hl.1 rfl (lv_room (Nat.le_of_ble_eq_true rfl)) dX1_restore_24 ⟨by first | decide | omega | (show _ ≤ (2 : Nat); omega), by first | decide | omega | (show _ ≤ (12 : Nat); omega)⟩) hP hD hS hA [] [0, 1, 2] rfl rfl (by decide) (by decide) (fun E ce q9 u9 t9 H locs ht9 hp9 hb9 hz hP hS h1 h2 h3 => ?_) (fun u9 H locs hq hX hz hk hP hD hS => ?_)
  · have hD := hD.sub (ws' := [((xa 3), .inr (4, [.ref ga, .ref (xa 7)])), ((xa 7), .inl (dA 4, 8, .inr (.inr (.inr (.inr fr))))), (kr, .inl (dA 4, 8, .inr (.inr (.inr (.inr (fun k => some (km k)))))))]) [0, 1, 2] (by decide) rfl
    have hP : va_P (dC, dI) vwCl [((xa 3), .inr (4, [.ref ga, .ref (xa 7)])), ((xa 7), .inl (dA 4, 8, .inr (.inr (.inr (.inr fr))))), (kr, .inl (dA 4, 8, .inr (.inr (.inr (.inr (fun k => some (km k)))))))] H := hP
    have hD : va_D A [((xa 3), .inr (4, [.ref ga, .ref (xa 7)])), ((xa 7), .inl (dA 4, 8, .inr (.inr (.inr (.inr fr))))), (kr, .inl (dA 4, 8, .inr (.inr (.inr (.inr (fun k => some (km k)))))))] := hD
    exact absurd hp9 (by decide)
  have hg24 : true = true := hq
  clear hq
  have hP : va_P (dC, dI) vwCl [((xa 3), .inr (4, [.ref ga, .ref (xa 7)])), ((xa 7), .inl (dA 4, 8, .inr (.inr (.inr (.inr fr))))), (kr, .inl (dA 4, 8, .inr (.inr (.inr (.inr (fun k => some (km k)))))))] H := hP
  have hD : va_D A [((xa 3), .inr (4, [.ref ga, .ref (xa 7)])), ((xa 7), .inl (dA 4, 8, .inr (.inr (.inr (.inr fr))))), (kr, .inl (dA 4, 8, .inr (.inr (.inr (.inr (fun k => some (km k)))))))] := hD
  refine lv_aload_n hx hb dX1_restore_27 rfl (lv_at hl 0 rfl) ?_
  refine va_get (D := (dC, dI)) (ci := 3) (v := .ref (xa 3)) (C := RX1) (T := TX1) (N := 9) hx hb hts in_X1 hown hK (hR0.up hS) 0 rfl rfl 2 (by decide) (hts _ q286) (fun _ h9 => h9) rfl dX1_restore_28 ?_
  refine lv_aload_n hx hb dX1_restore_31 rfl (lv_at hl 0 rfl) ?_
  refine va_get (D := (dC, dI)) (ci := 3) (v := .ref (xa 4)) (C := RX1) (T := TX1) (N := 9) hx hb hts in_X1 hown hK (hR0.up hS) 0 rfl rfl 3 (by decide) (hts _ q288) (fun _ h9 => h9) rfl dX1_restore_32 ?_
  refine lv_iload_n hx hb dX1_restore_35 rfl (lv_at hl 1 rfl) ?_
  refine a_aldq hx hb hK (hR1.up hS) 0 5 rfl rfl hj9 (by decide) dX1_restore_36 ?_
  refine e_v (y := .ref kw) (congrArg va_rf hk9) ?_
  have hF9 := va_free (wc := [((xa 3), .inr (4, [.ref ga, .ref (xa 7)])), ((xa 7), .inl (dA 4, 8, .inr (.inr (.inr (.inr fr))))), (kr, .inl (dA 4, 8, .inr (.inr (.inr (.inr (fun k => some (km k)))))))]) hD hS (fun q h => hA q h) [0, 1, 2] rfl
  refine c_v (wr := []) (va_runV (As := [.ref kw]) (rest := []) ⟨hx, hb, hml, hown, hts⟩ (x4_becomes Z (va_A [((xa 3), .inr (4, [.ref ga, .ref (xa 7)])), ((xa 7), .inl (dA 4, 8, .inr (.inr (.inr (.inr fr))))), (kr, .inl (dA 4, 8, .inr (.inr (.inr (.inr (fun k => some (km k)))))))] H.size) H.size (fun q h => Or.inr h) Y (xa 3) ga (xa 7) kw ka kr fr km kn Ks) (cwV 1 hts (lw_V q1988 q1989 q1990 q100 q1991) rfl rfl rfl (by decide +kernel) ⟨Nat.le_of_ble_eq_true rfl, Nat.le_of_ble_eq_true rfl⟩) (gP_V (va_recv hK hP (ci := 4) (q0 := 0) rfl rfl) hG hS (fun q _ h => hF9 q h) ⟨rfl, (hP.sub (ws' := [((xa 3), .inr (4, [.ref ga, .ref (xa 7)])), ((xa 7), .inl (dA 4, 8, .inr (.inr (.inr (.inr fr))))), (kr, .inl (dA 4, 8, .inr (.inr (.inr (.inr (fun k => some (km k)))))))]) [0, 1, 2] rfl), (hD.sub (ws' := [((xa 3), .inr (4, [.ref ga, .ref (xa 7)])), ((xa 7), .inl (dA 4, 8, .inr (.inr (.inr (.inr fr))))), (kr, .inl (dA 4, 8, .inr (.inr (.inr (.inr (fun k => some (km k)))))))]) [0, 1, 2] (by decide) rfl).self, (hR2.to hS (fun q _ h => hF9 q h)), (hRG.to hS (fun q _ h => hF9 q h))⟩) rfl rfl hl.1 rfl (lv_room (Nat.le_of_ble_eq_true rfl)) dX1_restore_37 ⟨by first | decide | omega | (show _ ≤ (2 : Nat); omega), by first | decide | omega | (show _ ≤ (12 : Nat); omega)⟩) hP hD hS hA [0, 1, 2] [] rfl rfl (by decide) (by decide) (fun u9 H locs hq hX hz hk hP hD hS => ?_)
  have hP : va_P (dC, dI) vwCl [((xa 3), .inr (4, [.ref ka, .ref (xa 7)])), ((xa 7), .inl (dA 4, 8, .inr (.inr (.inr (.inr (fun k => some (km k))))))), (kr, .inl (dA 4, 8, .inr (.inr (.inr (.inr (fun k => some (km k)))))))] H := hP
  have hD : va_D A [((xa 3), .inr (4, [.ref ka, .ref (xa 7)])), ((xa 7), .inl (dA 4, 8, .inr (.inr (.inr (.inr (fun k => some (km k))))))), (kr, .inl (dA 4, 8, .inr (.inr (.inr (.inr (fun k => some (km k)))))))] := hD
  subst hQe
  refine vx_ret ?_
  refine W.widen (k := 2) (n := 12) (by first | decide | omega) (by first | decide | omega) ?_
  exact W.vret hx hb hr (fun tz ht hW => ⟨⟨(), rfl, trivial, B1_at ht (hP.sub [0, 1, 2] rfl) (hD.sub [0, 1, 2] (by decide) rfl) trivial⟩, hS.F ht⟩) hS.2.2 dX1_restore_40
