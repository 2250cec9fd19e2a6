def npL (M : MV) (b : Nat) : List Nat := if topN M b = 1 ∧ botN M b = 1 ∧ b ≠ 0 then [] else wrN (topN M b) ++ (if 1 < botN M b then [47] ++ wrN (botN M b) else []) ++ (if 0 < b then [42] else [])
theorem np_a {M : MV} {b : Nat} (h1 : topN M b = 1) (h2 : botN M b = 1) (h3 : b ≠ 0) : npL M b = [] := by unfold npL; rw [if_pos ⟨h1, h2, h3⟩]
theorem np_b {M : MV} {b : Nat} (h : ¬ (topN M b = 1 ∧ botN M b = 1 ∧ b ≠ 0)) : npL M b = wrN (topN M b) ++ (if 1 < botN M b then [47] ++ wrN (botN M b) else []) ++ (if 0 < b then [42] else []) := by unfold npL; rw [if_neg h]
theorem wrT_0 {M : MV} {b : Nat} (h : ¬ 0 < b) : wrT M b = npL M b := by
  show npL M b ++ (if 0 < b then [101] ++ vecL b 5 else []) = _
  rw [if_neg h, List.append_nil]
theorem wrT_1 {M : MV} {b : Nat} (h : 0 < b) : wrT M b = npL M b ++ ([101] ++ vecL b 5) := by
  show npL M b ++ (if 0 < b then [101] ++ vecL b 5 else []) = _
  rw [if_pos h]
theorem aN_ne {v : Int64} (h : v ≠ 0) : 0 < aN v := by
  rcases Nat.eq_zero_or_pos (aN v) with e | e
  · exfalso; apply h; apply Int64.toInt_inj.mp
    unfold aN at e
    have : v.toInt = 0 := by omega
    rw [this]; rfl
  · exact e
set_option maxHeartbeats 4000000 in
theorem x7_writesTerm {l : Launch} {dC : Nat → ClassId} {dI : Nat → Nat → Nat} {dA : Nat → ClassId} {s0 : State} {b0 : Addr} (Z : Z0 l dC dI dA s0 b0) (A : Nat → Prop) (sz : Nat) (hA : ∀ q : Nat, sz ≤ q → A q) (o : Nat → Nat) (th : Int32) (p0 q0 r0 : Nat) (mu : Int64) (ln at_ : Nat) (er ea : Int32) (vs wn op_ : Nat) (bw bb bp : Bool) (uf : Int32) (wr_ : Nat) (fA : Nat → Int64) (fO : Nat → Int32) (L : List Nat) (k1 b : Nat) (M : MV) (hk1 : k1 < 80) (hb9 : b < 32) (hM : Hold fA k1 M) (sM : MSm M) (hne : M (b + 1) ≠ 0) (hn9 : L.length = wr_) (hw9 : wr_ + 26 ≤ 1200) (hO : OutH L fO) : Met l yX7_writesTerm (ws_ yX7_writesTerm cX7_writesTerm 11 none) ({ frames := 3, cells := 0, slots := 0, locals := 180 } : Room) (gP [.ref (o 0), .int (nI k1), .int (nI b)] s0 A (fun H => H.size = sz ∧ va_P (dC, dI) vwCl [(o 0, .inr (2, mFs o th p0 q0 r0 mu (zP ln at_ er ea vs wn op_ bw bb bp uf wr_))), (o 5, .inl (dA 1, 2640, .inr (.inl fA))), (o 10, .inl (dA 2, 1200, .inl fO))] H ∧ va_D A [(o 0, .inr (2, mFs o th p0 q0 r0 mu (zP ln at_ er ea vs wn op_ bw bb bp uf wr_))), (o 5, .inl (dA 1, 2640, .inr (.inl fA))), (o 10, .inl (dA 2, 1200, .inl fO))])) (va_Qv (S := Nat → Int32) (fun u => OutH (L ++ wrT M b) u) (B1 (dC, dI) A (fun u => [(o 0, .inr (2, mFs o th p0 q0 r0 mu (zP ln at_ er ea vs wn op_ bw bb bp uf (wr_ + (wrT M b).length)))), (o 5, .inl (dA 1, 2640, .inr (.inl fA))), (o 10, .inl (dA 2, 1200, .inl u))]) (fun _ _ => True)) A) 0 0 A := by
  refine Met.ofW (cc := cX7_writesTerm) (maxL := 11) (ret := none) (by decide) rfl ?_
  intro p e s m args below meth c s₁ B hml hv
  obtain ⟨hav, hG, hsz, hP, hD⟩ := hv
  have hx := B.exec
  have hb := B.bytes
  have hr := B.returns
  have hts := atoms_spec (ws := (ws_ yX7_writesTerm cX7_writesTerm 11 none)) B.pre
  have hts : ∀ w ∈ lw_all, w.before _ s = true := fun w h => hts w (List.mem_cons_of_mem _ h)
  have hown : s.vm.findClass RX7 = some m.cls := findClass_of_methodNamed B.named
  have hlocks := B.notSynchronized
  have hK := hG.K Z
  subst hsz
  have hS : va_S A s.heap s.heap [] := va_S.rf
  have hl := lv_entry ([.ref (o 0), .int (nI k1), .int (nI b)]) (n := 11) (Nat.le_of_ble_eq_true rfl)
  rw [show entryFrame m args 11 = entryFrame m ([.ref (o 0), .int (nI k1), .int (nI b)] : List Value).toArray 11 from by rw [hav], lg_entry_eq]
  generalize (lg_sl ([.ref (o 0), .int (nI k1), .int (nI b)]) ++ List.replicate (11 - (lg_sl ([.ref (o 0), .int (nI k1), .int (nI b)])).length) Slot.unset).toArray = ls at hl ⊢
  have hl : lv_has ls 11 [(0, .ref (o 0)), (1, .int (nI k1)), (2, .int (nI b))] := hl
  generalize hQe : MQ below _ _ s _ _ _ = Q
  change W p l e ({ frames := 3, cells := 0, slots := 0, locals := 180 } : Room) s m args below meth c s.heap [] 0 0 Q (F0 m 0 ls [])
  have hgp : 0 < (Nat.gcd (aN (M 0)) (aN (M (b + 1)))) := Nat.gcd_pos_of_pos_left _ (aN_pos sM.1)
  have hg8 : (Nat.gcd (aN (M 0)) (aN (M (b + 1)))) ≤ 100000000 := Nat.le_trans (Nat.gcd_le_left _ (aN_pos sM.1)) (aN8 sM.u)
  have hg6 : (Nat.gcd (aN (M 0)) (aN (M (b + 1)))) < 2 ^ 63 := by omega
  have hap : 0 < aN (M (b + 1)) := aN_ne hne
  have ht1 : 1 ≤ topN M b := Nat.div_pos (Nat.gcd_le_right _ hap) hgp
  have ht8 : topN M b ≤ 100000000 := Nat.le_trans (Nat.div_le_self _ _) (aN8 (sM.c hb9))
  have hb1 : 1 ≤ botN M b := Nat.div_pos (Nat.gcd_le_left _ (aN_pos sM.1)) hgp
  have hb8 : botN M b ≤ 100000000 := Nat.le_trans (Nat.div_le_self _ _) (aN8 sM.u)
  refine lv_aload_n hx hb dX7_writesTerm_0 rfl (lv_at hl 0 rfl) ?_
  refine lv_iload_n hx hb dX7_writesTerm_1 rfl (lv_at hl 1 rfl) ?_
  refine lv_iload_n hx hb dX7_writesTerm_2 rfl (lv_at hl 2 rfl) ?_
  refine s_l (va_runV (As := [.int (nI k1), .int (nI b)]) (rest := []) ⟨hx, hb, hml, hown, hts⟩ (x7_shared Z o th p0 q0 r0 mu (zP ln at_ er ea vs wn op_ bw bb bp uf wr_) fA k1 b M (by omega) (by omega) hM sM) (cwV 2 hts (lw_V q2245 q2247 qs57 q107 q2248) rfl rfl rfl (by decide +kernel) ⟨Nat.le_of_ble_eq_true rfl, Nat.le_of_ble_eq_true rfl⟩) (gP_V (va_recv hK hP (ci := 2) (q0 := 0) rfl rfl) hG hS (fun q _ h => h.elim) (hP.sub (ws' := [(o 0, .inr (2, mFs o th p0 q0 r0 mu (zP ln at_ er ea vs wn op_ bw bb bp uf wr_))), (o 5, .inl (dA 1, 2640, .inr (.inl fA)))]) [0, 1] rfl)) rfl rfl hl.1 rfl (lv_room (Nat.le_of_ble_eq_true rfl)) dX7_writesTerm_3 ⟨by first | decide | omega, by first | decide | omega⟩) ?_
  refine e_l (y := lN (Nat.gcd (aN (M 0)) (aN (M (b + 1))))) (rfl) ?_
  refine lv_lstore_n (lv' := [(3, .long (lN (Nat.gcd (aN (M 0)) (aN (M (b + 1)))))), (0, .ref (o 0)), (1, .int (nI k1)), (2, .int (nI b))]) hx hb dX7_writesTerm_6 rfl hl (by decide) rfl (fun ls hl => ?_)
  refine lv_aload_n hx hb dX7_writesTerm_7 rfl (lv_at hl 1 rfl) ?_
  refine lv_iload_n hx hb dX7_writesTerm_8 rfl (lv_at hl 2 rfl) ?_
  refine lv_iload_n hx hb dX7_writesTerm_9 rfl (lv_at hl 3 rfl) ?_
  refine s_l (va_runV (As := [.int (nI k1), .int (nI b)]) (rest := []) ⟨hx, hb, hml, hown, hts⟩ (x7_of Z o th p0 q0 r0 mu (zP ln at_ er ea vs wn op_ bw bb bp uf wr_) fA k1 b (by omega)) (cwV 2 hts (lw_V q2119 q2121 qs38 q107 q2122) rfl rfl rfl (by decide +kernel) ⟨Nat.le_of_ble_eq_true rfl, Nat.le_of_ble_eq_true rfl⟩) (gP_V (va_recv hK hP (ci := 2) (q0 := 0) rfl rfl) hG hS (fun q _ h => h.elim) (hP.sub (ws' := [(o 0, .inr (2, mFs o th p0 q0 r0 mu (zP ln at_ er ea vs wn op_ bw bb bp uf wr_))), (o 5, .inl (dA 1, 2640, .inr (.inl fA)))]) [0, 1] rfl)) rfl rfl hl.1 rfl (lv_room (Nat.le_of_ble_eq_true rfl)) dX7_writesTerm_10 ⟨by first | decide | omega, by first | decide | omega⟩) ?_
  refine e_l (y := M (b + 1)) (hold_at hM (i := b + 1) (by omega) (by omega)) ?_
  refine lv_lload_n hx hb dX7_writesTerm_13 rfl (lv_at hl 0 rfl) ?_
  refine lv_ldiv hx hb dX7_writesTerm_14 (lN_nz hgp hg6) ?_
  refine lv_lstore (lv' := [(5, .long ((M (b + 1)) / (lN (Nat.gcd (aN (M 0)) (aN (M (b + 1))))))), (3, .long (lN (Nat.gcd (aN (M 0)) (aN (M (b + 1)))))), (0, .ref (o 0)), (1, .int (nI k1)), (2, .int (nI b))]) hx hb dX7_writesTerm_15 hl (by decide) rfl (fun ls hl => ?_)
  have J_1 : ∀  (H : Heap) (locs : List Loc) (ls : Array Slot), va_P (dC, dI) vwCl [(o 0, .inr (2, mFs o th p0 q0 r0 mu (zP ln at_ er ea vs wn op_ bw bb bp uf wr_))), (o 5, .inl (dA 1, 2640, .inr (.inl fA))), (o 10, .inl (dA 2, 1200, .inl fO))] H → va_D A [(o 0, .inr (2, mFs o th p0 q0 r0 mu (zP ln at_ er ea vs wn op_ bw bb bp uf wr_))), (o 5, .inl (dA 1, 2640, .inr (.inl fA))), (o 10, .inl (dA 2, 1200, .inl fO))] → va_S A s.heap H locs → lv_has ls 11 [(5, .long ((M (b + 1)) / (lN (Nat.gcd (aN (M 0)) (aN (M (b + 1))))))), (3, .long (lN (Nat.gcd (aN (M 0)) (aN (M (b + 1)))))), (0, .ref (o 0)), (1, .int (nI k1)), (2, .int (nI b))] → W p l e ({ frames := 3, cells := 0, slots := 0, locals := 180 } : Room) s m args below meth c H locs 0 0 Q (F0 m 32 ls [.long (lN (topN M b))]) := by
    intro  H locs ls  hP hD hS hl
    refine lv_lstore (lv' := [(5, .long (lN (topN M b))), (3, .long (lN (Nat.gcd (aN (M 0)) (aN (M (b + 1)))))), (0, .ref (o 0)), (1, .int (nI k1)), (2, .int (nI b))]) hx hb dX7_writesTerm_32 hl (by decide) rfl (fun ls hl => ?_)
    refine lv_aload_n hx hb dX7_writesTerm_34 rfl (lv_at hl 2 rfl) ?_
    refine lv_iload_n hx hb dX7_writesTerm_35 rfl (lv_at hl 3 rfl) ?_
    refine s_l (va_runV (As := [.int (nI k1)]) (rest := []) ⟨hx, hb, hml, hown, hts⟩ (x7_under Z o th p0 q0 r0 mu (zP ln at_ er ea vs wn op_ bw bb bp uf wr_) fA k1 (by omega)) (cwV 1 hts (lw_V q2123 q2125 qs39 q107 q2126) rfl rfl rfl (by decide +kernel) ⟨Nat.le_of_ble_eq_true rfl, Nat.le_of_ble_eq_true rfl⟩) (gP_V (va_recv hK hP (ci := 2) (q0 := 0) rfl rfl) hG hS (fun q _ h => h.elim) (hP.sub (ws' := [(o 0, .inr (2, mFs o th p0 q0 r0 mu (zP ln at_ er ea vs wn op_ bw bb bp uf wr_))), (o 5, .inl (dA 1, 2640, .inr (.inl fA)))]) [0, 1] rfl)) rfl rfl hl.1 rfl (lv_room (Nat.le_of_ble_eq_true rfl)) dX7_writesTerm_36 ⟨by first | decide | omega, by first | decide | omega⟩) ?_
    refine e_l (y := M 0) (hold_at hM (i := 0) (by omega) (by omega)) ?_
    refine lv_lload_n hx hb dX7_writesTerm_39 rfl (lv_at hl 1 rfl) ?_
    refine lv_ldiv hx hb dX7_writesTerm_40 (lN_nz hgp hg6) ?_
    refine e_l (y := lN (botN M b)) (div_lN sM.u (by have := sM.1; omega) hgp hg6) ?_
    refine lv_lstore (lv' := [(7, .long (lN (botN M b))), (5, .long (lN (topN M b))), (3, .long (lN (Nat.gcd (aN (M 0)) (aN (M (b + 1)))))), (0, .ref (o 0)), (1, .int (nI k1)), (2, .int (nI b))]) hx hb dX7_writesTerm_41 hl (by decide) rfl (fun ls hl => ?_)
    have J_2 : ∀ (fB : Nat → Int32) (n1 : Nat) (H : Heap) (locs : List Loc) (ls : Array Slot), (OutH (L ++ npL M b) fB) → ((L ++ npL M b).length = n1) → (n1 ≤ wr_ + 20) → va_P (dC, dI) vwCl [(o 0, .inr (2, mFs o th p0 q0 r0 mu (zP ln at_ er ea vs wn op_ bw bb bp uf n1))), (o 5, .inl (dA 1, 2640, .inr (.inl fA))), (o 10, .inl (dA 2, 1200, .inl fB))] H → va_D A [(o 0, .inr (2, mFs o th p0 q0 r0 mu (zP ln at_ er ea vs wn op_ bw bb bp uf n1))), (o 5, .inl (dA 1, 2640, .inr (.inl fA))), (o 10, .inl (dA 2, 1200, .inl fB))] → va_S A s.heap H locs → lv_has ls 11 [(7, .long (lN (botN M b))), (5, .long (lN (topN M b))), (3, .long (lN (Nat.gcd (aN (M 0)) (aN (M (b + 1)))))), (0, .ref (o 0)), (1, .int (nI k1)), (2, .int (nI b))] → W p l e ({ frames := 3, cells := 0, slots := 0, locals := 180 } : Room) s m args below meth c H locs 0 0 Q (F0 m 108 ls []) := by
      intro fB n1 H locs ls hO1 hn1 hn2 hP hD hS hl
      refine lv_iload_n hx hb dX7_writesTerm_108 rfl (lv_at hl 5 rfl) ?_
      refine lv_if_le (tgt := 152) hx hb dX7_writesTerm_109 (by decide) (fun c_109 => ?_) (fun c_109 => ?_)
      · have c_109 : b ≤ 0 := (nI_leI (a := b) (b := 0) (by omega) (by omega)).mp c_109
        subst hQe
        exact W.vret hx hb hr (fun tz ht hW => ⟨⟨fB, rfl, (by rw [(show L ++ wrT M b = L ++ npL M b from by rw [show wrT M b = npL M b from wrT_0 (show ¬ 0 < b by omega)])]; exact hO1), B1_at ht (by rw [(show wr_ + (wrT M b).length = n1 from by rw [← hn9, ← List.length_append, (show L ++ wrT M b = L ++ npL M b from by rw [show wrT M b = npL M b from wrT_0 (show ¬ 0 < b by omega)])]; exact hn1)]; exact hP.sub [0, 1, 2] rfl) (by rw [(show wr_ + (wrT M b).length = n1 from by rw [← hn9, ← List.length_append, (show L ++ wrT M b = L ++ npL M b from by rw [show wrT M b = npL M b from wrT_0 (show ¬ 0 < b by omega)])]; exact hn1)]; exact hD.sub [0, 1, 2] (by decide) rfl) trivial⟩, hS.F ht⟩) hS.2.2 dX7_writesTerm_152
      · have c_109 : ¬ b ≤ 0 := fun h => c_109 ((nI_leI (a := b) (b := 0) (by omega) (by omega)).mpr h)
        have hb0 : 0 < b := by omega
        refine lv_aload_n hx hb dX7_writesTerm_112 rfl (lv_at hl 3 rfl) ?_
        refine lv_bipush (v := nI 101) hx hb dX7_writesTerm_113 (by decide) ?_
        have hF9 := va_free (wc := [(o 0, .inr (2, mFs o th p0 q0 r0 mu (zP ln at_ er ea vs wn op_ bw bb bp uf n1))), (o 10, .inl (dA 2, 1200, .inl fB))]) hD hS (fun q h => hA q h) [0, 2] rfl
        refine c_v (wr := [(o 5, .inl (dA 1, 2640, .inr (.inl fA)))]) (va_runV (As := [.int (nI 101)]) (rest := []) ⟨hx, hb, hml, hown, hts⟩ (x7_writes Z (va_A [(o 0, .inr (2, mFs o th p0 q0 r0 mu (zP ln at_ er ea vs wn op_ bw bb bp uf n1))), (o 10, .inl (dA 2, 1200, .inl fB))] H.size) H.size (fun q h => Or.inr h) o th p0 q0 r0 mu ln at_ er ea vs wn op_ bw bb bp uf n1 fB 101 (by omega)) (cwV 1 hts (lw_V q2505 q2507 qs92 q107 q2508) rfl rfl rfl (by decide +kernel) ⟨Nat.le_of_ble_eq_true rfl, Nat.le_of_ble_eq_true rfl⟩) (gP_V (va_recv hK hP (ci := 2) (q0 := 0) rfl rfl) hG hS (fun q _ h => hF9 q h) ⟨rfl, (hP.sub (ws' := [(o 0, .inr (2, mFs o th p0 q0 r0 mu (zP ln at_ er ea vs wn op_ bw bb bp uf n1))), (o 10, .inl (dA 2, 1200, .inl fB))]) [0, 2] rfl), (hD.sub (ws' := [(o 0, .inr (2, mFs o th p0 q0 r0 mu (zP ln at_ er ea vs wn op_ bw bb bp uf n1))), (o 10, .inl (dA 2, 1200, .inl fB))]) [0, 2] (by decide) rfl).self⟩) rfl rfl hl.1 rfl (lv_room (Nat.le_of_ble_eq_true rfl)) dX7_writesTerm_115 ⟨by first | decide | omega, by first | decide | omega⟩) hP hD hS hA [0, 2] [1] rfl rfl (by decide) (by decide) (fun u9 H locs hq hX hz hk hP hD hS => ?_)
        have hP : va_P (dC, dI) vwCl [(o 5, .inl (dA 1, 2640, .inr (.inl fA))), (o 0, .inr (2, mFs o th p0 q0 r0 mu (zP ln at_ er ea vs wn op_ bw bb bp uf (n1 + 1)))), (o 10, .inl (dA 2, 1200, .inl (upd fB n1 (sb_b 101))))] H := hP
        have hD : va_D A [(o 5, .inl (dA 1, 2640, .inr (.inl fA))), (o 0, .inr (2, mFs o th p0 q0 r0 mu (zP ln at_ er ea vs wn op_ bw bb bp uf (n1 + 1)))), (o 10, .inl (dA 2, 1200, .inl (upd fB n1 (sb_b 101))))] := hD
        have hO_4 := OutH.add (c := 101) hO1 hn1
        generalize upd fB n1 (sb_b 101) = fO_3 at hP hD hO_4
        have hn_5 : ((L ++ npL M b) ++ [101]).length = n1 + 1 := by rw [List.length_append, hn1]; rfl
        refine lv_iconst (v := nI 0) hx hb dX7_writesTerm_118 (by decide) ?_
        refine lv_istore (lv' := [(10, .int (nI 0)), (7, .long (lN (botN M b))), (5, .long (lN (topN M b))), (3, .long (lN (Nat.gcd (aN (M 0)) (aN (M (b + 1)))))), (0, .ref (o 0)), (1, .int (nI k1)), (2, .int (nI b))]) hx hb dX7_writesTerm_119 hl (by decide) rfl (fun ls hl => ?_)
        have hP : va_P (dC, dI) vwCl [(o 5, .inl (dA 1, 2640, .inr (.inl fA))), (o 0, .inr (2, mFs o th p0 q0 r0 mu (zP ln at_ er ea vs wn op_ bw bb bp uf (n1 + 1 + (vecL b 0).length)))), (o 10, .inl (dA 2, 1200, .inl fO_3))] H := hP
        have hD : va_D A [(o 5, .inl (dA 1, 2640, .inr (.inl fA))), (o 0, .inr (2, mFs o th p0 q0 r0 mu (zP ln at_ er ea vs wn op_ bw bb bp uf (n1 + 1 + (vecL b 0).length)))), (o 10, .inl (dA 2, 1200, .inl fO_3))] := hD
        have loop_6 : ∀ (n9_6 : Nat) (k : Nat) (fC : Nat → Int32) (H : Heap) (locs : List Loc) (ls : Array Slot), 5 - k < n9_6 → (k ≤ 5) → (OutH (L ++ npL M b ++ [101] ++ vecL b k) fC) → va_P (dC, dI) vwCl [(o 5, .inl (dA 1, 2640, .inr (.inl fA))), (o 0, .inr (2, mFs o th p0 q0 r0 mu (zP ln at_ er ea vs wn op_ bw bb bp uf (n1 + 1 + (vecL b k).length)))), (o 10, .inl (dA 2, 1200, .inl fC))] H → va_D A [(o 5, .inl (dA 1, 2640, .inr (.inl fA))), (o 0, .inr (2, mFs o th p0 q0 r0 mu (zP ln at_ er ea vs wn op_ bw bb bp uf (n1 + 1 + (vecL b k).length)))), (o 10, .inl (dA 2, 1200, .inl fC))] → va_S A s.heap H locs → lv_has ls 11 [(0, .ref (o 0)), (1, .int (nI k1)), (2, .int (nI b)), (3, .long (lN (Nat.gcd (aN (M 0)) (aN (M (b + 1)))))), (5, .long (lN (topN M b))), (7, .long (lN (botN M b))), (10, .int (nI k))] → W p l e ({ frames := 3, cells := 0, slots := 0, locals := 180 } : Room) s m args below meth c H locs 0 0 Q (F0 m 121 ls []) := by
          intro n9_6
          induction n9_6 with
          | zero => intro k fC H locs ls hm_6; exact absurd hm_6 (Nat.not_lt_zero _)
          | succ n9_6 ih_6 =>
            intro k fC H locs ls hm_6 hk9 hO2 hP hD hS hl
            have hl9 := vecL_len b k
            have hn3 : (L ++ npL M b ++ [101] ++ vecL b k).length = n1 + 1 + (vecL b k).length := by rw [List.length_append, List.length_append, hn1]; rfl
            refine lv_iload hx hb dX7_writesTerm_121 (lv_at hl 6 rfl) ?_
            refine lv_iconst (v := nI 5) hx hb dX7_writesTerm_123 (by decide) ?_
            refine lv_icmp_ge (tgt := 152) hx hb dX7_writesTerm_124 (by decide) (fun c_124 => ?_) (fun c_124 => ?_)
            · have c_124 : 5 ≤ k := (nI_leI (a := 5) (b := k) (by omega) (by omega)).mp c_124
              obtain rfl : k = 5 := by omega
              subst hQe
              exact W.vret hx hb hr (fun tz ht hW => ⟨⟨fC, rfl, (by rw [(show L ++ wrT M b = L ++ npL M b ++ [101] ++ vecL b 5 from by rw [wrT_1 hb0]; simp only [List.append_assoc])]; exact hO2), B1_at ht (by rw [(show wr_ + (wrT M b).length = n1 + 1 + (vecL b 5).length from by rw [← hn9, ← List.length_append, (show L ++ wrT M b = L ++ npL M b ++ [101] ++ vecL b 5 from by rw [wrT_1 hb0]; simp only [List.append_assoc])]; rw [List.length_append, List.length_append, hn1]; rfl)]; exact hP.sub [1, 0, 2] rfl) (by rw [(show wr_ + (wrT M b).length = n1 + 1 + (vecL b 5).length from by rw [← hn9, ← List.length_append, (show L ++ wrT M b = L ++ npL M b ++ [101] ++ vecL b 5 from by rw [wrT_1 hb0]; simp only [List.append_assoc])]; rw [List.length_append, List.length_append, hn1]; rfl)]; exact hD.sub [1, 0, 2] (by decide) rfl) trivial⟩, hS.F ht⟩) hS.2.2 dX7_writesTerm_152
            · have c_124 : ¬ 5 ≤ k := fun h => c_124 ((nI_leI (a := 5) (b := k) (by omega) (by omega)).mpr h)
              refine lv_iload_n hx hb dX7_writesTerm_127 rfl (lv_at hl 2 rfl) ?_
              refine lv_iload hx hb dX7_writesTerm_128 (lv_at hl 6 rfl) ?_
              refine lv_ishr hx hb dX7_writesTerm_130 ?_
              refine e_i (y := nI (b / 2 ^ k)) (n_shr (by omega) (by omega)) ?_
              refine lv_iconst (v := nI 1) hx hb dX7_writesTerm_131 (by decide) ?_
              refine lv_iand hx hb dX7_writesTerm_132 ?_
              refine e_i (y := nI ((b / 2 ^ k) &&& 1)) (n_and _ _) ?_
              refine lv_iconst (v := nI 1) hx hb dX7_writesTerm_133 (by decide) ?_
              refine lv_icmp_ne (tgt := 146) hx hb dX7_writesTerm_134 (by decide) (fun c_134 => ?_) (fun c_134 => ?_)
              · have c_134 : ¬ ((b / 2 ^ k) &&& 1) = 1 := fun h => c_134 ((nI_eq (a := ((b / 2 ^ k) &&& 1)) (b := 1) (Nat.lt_of_le_of_lt Nat.and_le_right (by decide)) (by omega)).mpr h)
                have e9 : n1 + 1 + (vecL b k).length = n1 + 1 + (vecL b (k + 1)).length := by rw [show vecL b (k + 1) = vecL b k from (show (if b / 2 ^ k &&& 1 = 1 then vecL b k ++ [49 + k] else vecL b k) = _ from if_neg c_134)]
                rw [e9] at hP hD; clear e9
                have hP : va_P (dC, dI) vwCl [(o 5, .inl (dA 1, 2640, .inr (.inl fA))), (o 0, .inr (2, mFs o th p0 q0 r0 mu (zP ln at_ er ea vs wn op_ bw bb bp uf (n1 + 1 + (vecL b (k + 1)).length)))), (o 10, .inl (dA 2, 1200, .inl fC))] H := hP
                have hD : va_D A [(o 5, .inl (dA 1, 2640, .inr (.inl fA))), (o 0, .inr (2, mFs o th p0 q0 r0 mu (zP ln at_ er ea vs wn op_ bw bb bp uf (n1 + 1 + (vecL b (k + 1)).length)))), (o 10, .inl (dA 2, 1200, .inl fC))] := hD
                refine lv_iinc (v := nI (k + 1)) (lv' := [(10, .int (nI (k + 1))), (0, .ref (o 0)), (1, .int (nI k1)), (2, .int (nI b)), (3, .long (lN (Nat.gcd (aN (M 0)) (aN (M (b + 1)))))), (5, .long (lN (topN M b))), (7, .long (lN (botN M b)))]) hx hb dX7_writesTerm_146 hl (k := 6) rfl (by exact nI_add _ 1) (by decide) rfl (fun ls hl => ?_)
                refine lv_goto (tgt := 121) hx hb dX7_writesTerm_149 (by decide) ?_
                exact ih_6 (k + 1) fC H locs ls (by omega) (by omega) (by show OutH (L ++ npL M b ++ [101] ++ (if b / 2 ^ k &&& 1 = 1 then vecL b k ++ [49 + k] else vecL b k)) _; rw [if_neg c_134]; exact hO2) (hP.sub [0, 1, 2] rfl) (hD.sub [0, 1, 2] (by decide) rfl) hS (lv_sub hl [1, 2, 3, 4, 5, 6, 0] rfl)
              · have c_134 : ((b / 2 ^ k) &&& 1) = 1 := (nI_eq (a := ((b / 2 ^ k) &&& 1)) (b := 1) (Nat.lt_of_le_of_lt Nat.and_le_right (by decide)) (by omega)).mp c_134
                refine lv_aload_n hx hb dX7_writesTerm_137 rfl (lv_at hl 0 rfl) ?_
                refine lv_bipush (v := nI 49) hx hb dX7_writesTerm_138 (by decide) ?_
                refine lv_iload hx hb dX7_writesTerm_140 (lv_at hl 6 rfl) ?_
                refine lv_iadd hx hb dX7_writesTerm_142 ?_
                refine e_i (y := nI (49 + k)) (nI_add _ _) ?_
                have hF9 := va_free (wc := [(o 0, .inr (2, mFs o th p0 q0 r0 mu (zP ln at_ er ea vs wn op_ bw bb bp uf (n1 + 1 + (vecL b k).length)))), (o 10, .inl (dA 2, 1200, .inl fC))]) hD hS (fun q h => hA q h) [1, 2] rfl
                refine c_v (wr := [(o 5, .inl (dA 1, 2640, .inr (.inl fA)))]) (va_runV (As := [.int (nI (49 + k))]) (rest := []) ⟨hx, hb, hml, hown, hts⟩ (x7_writes Z (va_A [(o 0, .inr (2, mFs o th p0 q0 r0 mu (zP ln at_ er ea vs wn op_ bw bb bp uf (n1 + 1 + (vecL b k).length)))), (o 10, .inl (dA 2, 1200, .inl fC))] H.size) H.size (fun q h => Or.inr h) o th p0 q0 r0 mu ln at_ er ea vs wn op_ bw bb bp uf (n1 + 1 + (vecL b k).length) fC (49 + k) (by omega)) (cwV 1 hts (lw_V q2505 q2507 qs92 q107 q2508) rfl rfl rfl (by decide +kernel) ⟨Nat.le_of_ble_eq_true rfl, Nat.le_of_ble_eq_true rfl⟩) (gP_V (va_recv hK hP (ci := 2) (q0 := 1) rfl rfl) hG hS (fun q _ h => hF9 q h) ⟨rfl, (hP.sub (ws' := [(o 0, .inr (2, mFs o th p0 q0 r0 mu (zP ln at_ er ea vs wn op_ bw bb bp uf (n1 + 1 + (vecL b k).length)))), (o 10, .inl (dA 2, 1200, .inl fC))]) [1, 2] rfl), (hD.sub (ws' := [(o 0, .inr (2, mFs o th p0 q0 r0 mu (zP ln at_ er ea vs wn op_ bw bb bp uf (n1 + 1 + (vecL b k).length)))), (o 10, .inl (dA 2, 1200, .inl fC))]) [1, 2] (by decide) rfl).self⟩) rfl rfl hl.1 rfl (lv_room (Nat.le_of_ble_eq_true rfl)) dX7_writesTerm_143 ⟨by first | decide | omega, by first | decide | omega⟩) hP hD hS hA [1, 2] [0] rfl rfl (by decide) (by decide) (fun u9 H locs hq hX hz hk hP hD hS => ?_)
                have hP : va_P (dC, dI) vwCl [(o 5, .inl (dA 1, 2640, .inr (.inl fA))), (o 0, .inr (2, mFs o th p0 q0 r0 mu (zP ln at_ er ea vs wn op_ bw bb bp uf (n1 + 1 + (vecL b k).length + 1)))), (o 10, .inl (dA 2, 1200, .inl (upd fC (n1 + 1 + (vecL b k).length) (sb_b (49 + k)))))] H := hP
                have hD : va_D A [(o 5, .inl (dA 1, 2640, .inr (.inl fA))), (o 0, .inr (2, mFs o th p0 q0 r0 mu (zP ln at_ er ea vs wn op_ bw bb bp uf (n1 + 1 + (vecL b k).length + 1)))), (o 10, .inl (dA 2, 1200, .inl (upd fC (n1 + 1 + (vecL b k).length) (sb_b (49 + k)))))] := hD
                have hO_8 := OutH.add (c := 49 + k) hO2 hn3
                generalize upd fC (n1 + 1 + (vecL b k).length) (sb_b (49 + k)) = fO_7 at hP hD hO_8
                have hn_9 : ((L ++ npL M b ++ [101] ++ vecL b k) ++ [49 + k]).length = n1 + 1 + (vecL b k).length + 1 := by rw [List.length_append, hn3]; rfl
                have e9 : n1 + 1 + (vecL b k).length + 1 = n1 + 1 + (vecL b (k + 1)).length := by rw [show vecL b (k + 1) = vecL b k ++ [49 + k] from (show (if b / 2 ^ k &&& 1 = 1 then vecL b k ++ [49 + k] else vecL b k) = _ from if_pos c_134), List.length_append]; rfl
                rw [e9] at hP hD; clear e9
                have hP : va_P (dC, dI) vwCl [(o 5, .inl (dA 1, 2640, .inr (.inl fA))), (o 0, .inr (2, mFs o th p0 q0 r0 mu (zP ln at_ er ea vs wn op_ bw bb bp uf (n1 + 1 + (vecL b (k + 1)).length)))), (o 10, .inl (dA 2, 1200, .inl fO_7))] H := hP
                have hD : va_D A [(o 5, .inl (dA 1, 2640, .inr (.inl fA))), (o 0, .inr (2, mFs o th p0 q0 r0 mu (zP ln at_ er ea vs wn op_ bw bb bp uf (n1 + 1 + (vecL b (k + 1)).length)))), (o 10, .inl (dA 2, 1200, .inl fO_7))] := hD
                refine lv_iinc (v := nI (k + 1)) (lv' := [(10, .int (nI (k + 1))), (0, .ref (o 0)), (1, .int (nI k1)), (2, .int (nI b)), (3, .long (lN (Nat.gcd (aN (M 0)) (aN (M (b + 1)))))), (5, .long (lN (topN M b))), (7, .long (lN (botN M b)))]) hx hb dX7_writesTerm_146 hl (k := 6) rfl (by exact nI_add _ 1) (by decide) rfl (fun ls hl => ?_)
                refine lv_goto (tgt := 121) hx hb dX7_writesTerm_149 (by decide) ?_
                exact ih_6 (k + 1) fO_7 H locs ls (by omega) (by omega) (by show OutH (L ++ npL M b ++ [101] ++ (if b / 2 ^ k &&& 1 = 1 then vecL b k ++ [49 + k] else vecL b k)) _; rw [if_pos c_134, ← List.append_assoc]; exact hO_8) (hP.sub [0, 1, 2] rfl) (hD.sub [0, 1, 2] (by decide) rfl) hS (lv_sub hl [1, 2, 3, 4, 5, 6, 0] rfl)
        exact loop_6 _ 0 fO_3 H locs ls (Nat.lt_succ_self _) (by omega) (by simpa [vecL] using hO_4) hP hD hS (lv_sub hl [4, 5, 6, 3, 2, 1, 0] rfl)
    refine lv_lload hx hb dX7_writesTerm_43 (lv_at hl 1 rfl) ?_
    refine lv_lconst (v := 1) hx hb dX7_writesTerm_45 rfl ?_
    refine W.lcmp hx hb dX7_writesTerm_46 ?_
    refine lv_if_ne (tgt := 61) hx hb dX7_writesTerm_47 (by decide) (fun c_47 => ?_) (fun c_47 => ?_)
    · have c_47 : ¬ (lN (topN M b)) = 1 := fun h => c_47 ((lg_cmp_eq _ _).mpr h)
      have hc_47 : ¬ topN M b = 1 := fun h => c_47 (by rw [h]; rfl)
      refine lv_iconst (v := nI 0) hx hb dX7_writesTerm_61 (by decide) ?_
      refine lv_istore (lv' := [(9, .int (nI 0)), (7, .long (lN (botN M b))), (5, .long (lN (topN M b))), (3, .long (lN (Nat.gcd (aN (M 0)) (aN (M (b + 1)))))), (0, .ref (o 0)), (1, .int (nI k1)), (2, .int (nI b))]) hx hb dX7_writesTerm_62 hl (by decide) rfl (fun ls hl => ?_)
      refine lv_iload hx hb dX7_writesTerm_64 (lv_at hl 0 rfl) ?_
      refine lv_if_eq (tgt := 73) hx hb dX7_writesTerm_66 (by decide) (fun c_66 => ?_) (fun c_66 => ?_)
      rotate_left
      · exact absurd (by decide) c_66
      refine lv_aload_n hx hb dX7_writesTerm_73 rfl (lv_at hl 4 rfl) ?_
      refine lv_lload hx hb dX7_writesTerm_74 (lv_at hl 2 rfl) ?_
      have hF9 := va_free (wc := [(o 0, .inr (2, mFs o th p0 q0 r0 mu (zP ln at_ er ea vs wn op_ bw bb bp uf wr_))), (o 10, .inl (dA 2, 1200, .inl fO))]) hD hS (fun q h => hA q h) [0, 2] rfl
      refine c_v (wr := [(o 5, .inl (dA 1, 2640, .inr (.inl fA)))]) (va_runV (As := [.long (lN (topN M b))]) (rest := []) ⟨hx, hb, hml, hown, hts⟩ (x7_writesNumber Z (va_A [(o 0, .inr (2, mFs o th p0 q0 r0 mu (zP ln at_ er ea vs wn op_ bw bb bp uf wr_))), (o 10, .inl (dA 2, 1200, .inl fO))] H.size) H.size (fun q h => Or.inr h) o th p0 q0 r0 mu ln at_ er ea vs wn op_ bw bb bp uf wr_ fO L (topN M b) ht1 ht8 hn9 (by omega) hO) (cwV 1 hts (lw_V q2513 q2515 qs94 q107 q2516) rfl rfl rfl (by decide +kernel) ⟨Nat.le_of_ble_eq_true rfl, Nat.le_of_ble_eq_true rfl⟩) (gP_V (va_recv hK hP (ci := 2) (q0 := 0) rfl rfl) hG hS (fun q _ h => hF9 q h) ⟨rfl, (hP.sub (ws' := [(o 0, .inr (2, mFs o th p0 q0 r0 mu (zP ln at_ er ea vs wn op_ bw bb bp uf wr_))), (o 10, .inl (dA 2, 1200, .inl fO))]) [0, 2] rfl), (hD.sub (ws' := [(o 0, .inr (2, mFs o th p0 q0 r0 mu (zP ln at_ er ea vs wn op_ bw bb bp uf wr_))), (o 10, .inl (dA 2, 1200, .inl fO))]) [0, 2] (by decide) rfl).self⟩) rfl rfl hl.1 rfl (lv_room (Nat.le_of_ble_eq_true rfl)) dX7_writesTerm_76 ⟨by first | decide | omega, by first | decide | omega⟩) hP hD hS hA [0, 2] [1] rfl rfl (by decide) (by decide) (fun u9 H locs hq hX hz hk hP hD hS => ?_)
      obtain ⟨fO_10, rfl⟩ : ∃ z, z = u9 := ⟨_, rfl⟩
      have hO_11 := hq
      have hP : va_P (dC, dI) vwCl [(o 5, .inl (dA 1, 2640, .inr (.inl fA))), (o 0, .inr (2, mFs o th p0 q0 r0 mu (zP ln at_ er ea vs wn op_ bw bb bp uf (wr_ + (wrN (topN M b)).length)))), (o 10, .inl (dA 2, 1200, .inl fO_10))] H := hP
      have hD : va_D A [(o 5, .inl (dA 1, 2640, .inr (.inl fA))), (o 0, .inr (2, mFs o th p0 q0 r0 mu (zP ln at_ er ea vs wn op_ bw bb bp uf (wr_ + (wrN (topN M b)).length)))), (o 10, .inl (dA 2, 1200, .inl fO_10))] := hD
      have hn_12 : (L ++ wrN (topN M b)).length = wr_ + (wrN (topN M b)).length := by rw [List.length_append, hn9]
      have hd_hn_12 := sb_dg8 (v := (topN M b)) (by omega)
      rw [← wrN_len] at hd_hn_12
      refine lv_lload hx hb dX7_writesTerm_79 (lv_at hl 1 rfl) ?_
      refine lv_lconst (v := 1) hx hb dX7_writesTerm_81 rfl ?_
      refine W.lcmp hx hb dX7_writesTerm_82 ?_
      refine lv_if_le (tgt := 98) hx hb dX7_writesTerm_83 (by decide) (fun c_83 => ?_) (fun c_83 => ?_)
      · have c_83 : (lN (botN M b)) ≤ 1 := (lg_cmp_le _ _).mp c_83
        have hc_83 : ¬ 1 < botN M b := fun h => absurd ((pk_lLT (a := 1) (by decide) (by omega)).mpr h) (Int64.not_lt.mpr c_83)
        refine lv_iload_n hx hb dX7_writesTerm_98 rfl (lv_at hl 6 rfl) ?_
        refine lv_if_le (tgt := 108) hx hb dX7_writesTerm_99 (by decide) (fun c_99 => ?_) (fun c_99 => ?_)
        · have c_99 : b ≤ 0 := (nI_leI (a := b) (b := 0) (by omega) (by omega)).mp c_99
          have hc_99 : ¬ 0 < b := by omega
          exact J_2 fO_10 (wr_ + (wrN (topN M b)).length) H locs ls (by rw [(show L ++ npL M b = (L ++ wrN (topN M b)) from by rw [np_b (by omega), if_neg hc_83, if_neg hc_99]; simp only [List.append_assoc, List.append_nil, List.nil_append])]; exact hO_11) (by rw [(show L ++ npL M b = (L ++ wrN (topN M b)) from by rw [np_b (by omega), if_neg hc_83, if_neg hc_99]; simp only [List.append_assoc, List.append_nil, List.nil_append])]; exact hn_12) (by omega) (hP.sub [1, 0, 2] rfl) (hD.sub [1, 0, 2] (by decide) rfl) hS (lv_sub hl [1, 2, 3, 4, 5, 6] rfl)
        · have c_99 : ¬ b ≤ 0 := fun h => c_99 ((nI_leI (a := b) (b := 0) (by omega) (by omega)).mpr h)
          have hc_99 : 0 < b := by omega
          refine lv_aload_n hx hb dX7_writesTerm_102 rfl (lv_at hl 4 rfl) ?_
          refine lv_bipush (v := nI 42) hx hb dX7_writesTerm_103 (by decide) ?_
          have hF9 := va_free (wc := [(o 0, .inr (2, mFs o th p0 q0 r0 mu (zP ln at_ er ea vs wn op_ bw bb bp uf (wr_ + (wrN (topN M b)).length)))), (o 10, .inl (dA 2, 1200, .inl fO_10))]) hD hS (fun q h => hA q h) [1, 2] rfl
          refine c_v (wr := [(o 5, .inl (dA 1, 2640, .inr (.inl fA)))]) (va_runV (As := [.int (nI 42)]) (rest := []) ⟨hx, hb, hml, hown, hts⟩ (x7_writes Z (va_A [(o 0, .inr (2, mFs o th p0 q0 r0 mu (zP ln at_ er ea vs wn op_ bw bb bp uf (wr_ + (wrN (topN M b)).length)))), (o 10, .inl (dA 2, 1200, .inl fO_10))] H.size) H.size (fun q h => Or.inr h) o th p0 q0 r0 mu ln at_ er ea vs wn op_ bw bb bp uf (wr_ + (wrN (topN M b)).length) fO_10 42 (by omega)) (cwV 1 hts (lw_V q2505 q2507 qs92 q107 q2508) rfl rfl rfl (by decide +kernel) ⟨Nat.le_of_ble_eq_true rfl, Nat.le_of_ble_eq_true rfl⟩) (gP_V (va_recv hK hP (ci := 2) (q0 := 1) rfl rfl) hG hS (fun q _ h => hF9 q h) ⟨rfl, (hP.sub (ws' := [(o 0, .inr (2, mFs o th p0 q0 r0 mu (zP ln at_ er ea vs wn op_ bw bb bp uf (wr_ + (wrN (topN M b)).length)))), (o 10, .inl (dA 2, 1200, .inl fO_10))]) [1, 2] rfl), (hD.sub (ws' := [(o 0, .inr (2, mFs o th p0 q0 r0 mu (zP ln at_ er ea vs wn op_ bw bb bp uf (wr_ + (wrN (topN M b)).length)))), (o 10, .inl (dA 2, 1200, .inl fO_10))]) [1, 2] (by decide) rfl).self⟩) rfl rfl hl.1 rfl (lv_room (Nat.le_of_ble_eq_true rfl)) dX7_writesTerm_105 ⟨by first | decide | omega, by first | decide | omega⟩) hP hD hS hA [1, 2] [0] rfl rfl (by decide) (by decide) (fun u9 H locs hq hX hz hk hP hD hS => ?_)
          have hP : va_P (dC, dI) vwCl [(o 5, .inl (dA 1, 2640, .inr (.inl fA))), (o 0, .inr (2, mFs o th p0 q0 r0 mu (zP ln at_ er ea vs wn op_ bw bb bp uf (wr_ + (wrN (topN M b)).length + 1)))), (o 10, .inl (dA 2, 1200, .inl (upd fO_10 (wr_ + (wrN (topN M b)).length) (sb_b 42))))] H := hP
          have hD : va_D A [(o 5, .inl (dA 1, 2640, .inr (.inl fA))), (o 0, .inr (2, mFs o th p0 q0 r0 mu (zP ln at_ er ea vs wn op_ bw bb bp uf (wr_ + (wrN (topN M b)).length + 1)))), (o 10, .inl (dA 2, 1200, .inl (upd fO_10 (wr_ + (wrN (topN M b)).length) (sb_b 42))))] := hD
          have hO_14 := OutH.add (c := 42) hO_11 hn_12
          generalize upd fO_10 (wr_ + (wrN (topN M b)).length) (sb_b 42) = fO_13 at hP hD hO_14
          have hn_15 : ((L ++ wrN (topN M b)) ++ [42]).length = wr_ + (wrN (topN M b)).length + 1 := by rw [List.length_append, hn_12]; rfl
          exact J_2 fO_13 (wr_ + (wrN (topN M b)).length + 1) H locs ls (by rw [(show L ++ npL M b = ((L ++ wrN (topN M b)) ++ [42]) from by rw [np_b (by omega), if_neg hc_83, if_pos hc_99]; simp only [List.append_assoc, List.append_nil, List.nil_append])]; exact hO_14) (by rw [(show L ++ npL M b = ((L ++ wrN (topN M b)) ++ [42]) from by rw [np_b (by omega), if_neg hc_83, if_pos hc_99]; simp only [List.append_assoc, List.append_nil, List.nil_append])]; exact hn_15) (by omega) (hP.sub [1, 0, 2] rfl) (hD.sub [1, 0, 2] (by decide) rfl) hS (lv_sub hl [1, 2, 3, 4, 5, 6] rfl)
      · have c_83 : ¬ (lN (botN M b)) ≤ 1 := fun h => c_83 ((lg_cmp_le _ _).mpr h)
        have hc_83 : 1 < botN M b := (pk_lLT (a := 1) (by decide) (by omega)).mp (Int64.not_le.mp c_83)
        refine lv_aload_n hx hb dX7_writesTerm_86 rfl (lv_at hl 4 rfl) ?_
        refine lv_bipush (v := nI 47) hx hb dX7_writesTerm_87 (by decide) ?_
        have hF9 := va_free (wc := [(o 0, .inr (2, mFs o th p0 q0 r0 mu (zP ln at_ er ea vs wn op_ bw bb bp uf (wr_ + (wrN (topN M b)).length)))), (o 10, .inl (dA 2, 1200, .inl fO_10))]) hD hS (fun q h => hA q h) [1, 2] rfl
        refine c_v (wr := [(o 5, .inl (dA 1, 2640, .inr (.inl fA)))]) (va_runV (As := [.int (nI 47)]) (rest := []) ⟨hx, hb, hml, hown, hts⟩ (x7_writes Z (va_A [(o 0, .inr (2, mFs o th p0 q0 r0 mu (zP ln at_ er ea vs wn op_ bw bb bp uf (wr_ + (wrN (topN M b)).length)))), (o 10, .inl (dA 2, 1200, .inl fO_10))] H.size) H.size (fun q h => Or.inr h) o th p0 q0 r0 mu ln at_ er ea vs wn op_ bw bb bp uf (wr_ + (wrN (topN M b)).length) fO_10 47 (by omega)) (cwV 1 hts (lw_V q2505 q2507 qs92 q107 q2508) rfl rfl rfl (by decide +kernel) ⟨Nat.le_of_ble_eq_true rfl, Nat.le_of_ble_eq_true rfl⟩) (gP_V (va_recv hK hP (ci := 2) (q0 := 1) rfl rfl) hG hS (fun q _ h => hF9 q h) ⟨rfl, (hP.sub (ws' := [(o 0, .inr (2, mFs o th p0 q0 r0 mu (zP ln at_ er ea vs wn op_ bw bb bp uf (wr_ + (wrN (topN M b)).length)))), (o 10, .inl (dA 2, 1200, .inl fO_10))]) [1, 2] rfl), (hD.sub (ws' := [(o 0, .inr (2, mFs o th p0 q0 r0 mu (zP ln at_ er ea vs wn op_ bw bb bp uf (wr_ + (wrN (topN M b)).length)))), (o 10, .inl (dA 2, 1200, .inl fO_10))]) [1, 2] (by decide) rfl).self⟩) rfl rfl hl.1 rfl (lv_room (Nat.le_of_ble_eq_true rfl)) dX7_writesTerm_89 ⟨by first | decide | omega, by first | decide | omega⟩) hP hD hS hA [1, 2] [0] rfl rfl (by decide) (by decide) (fun u9 H locs hq hX hz hk hP hD hS => ?_)
        have hP : va_P (dC, dI) vwCl [(o 5, .inl (dA 1, 2640, .inr (.inl fA))), (o 0, .inr (2, mFs o th p0 q0 r0 mu (zP ln at_ er ea vs wn op_ bw bb bp uf (wr_ + (wrN (topN M b)).length + 1)))), (o 10, .inl (dA 2, 1200, .inl (upd fO_10 (wr_ + (wrN (topN M b)).length) (sb_b 47))))] H := hP
        have hD : va_D A [(o 5, .inl (dA 1, 2640, .inr (.inl fA))), (o 0, .inr (2, mFs o th p0 q0 r0 mu (zP ln at_ er ea vs wn op_ bw bb bp uf (wr_ + (wrN (topN M b)).length + 1)))), (o 10, .inl (dA 2, 1200, .inl (upd fO_10 (wr_ + (wrN (topN M b)).length) (sb_b 47))))] := hD
        have hO_17 := OutH.add (c := 47) hO_11 hn_12
        generalize upd fO_10 (wr_ + (wrN (topN M b)).length) (sb_b 47) = fO_16 at hP hD hO_17
        have hn_18 : ((L ++ wrN (topN M b)) ++ [47]).length = wr_ + (wrN (topN M b)).length + 1 := by rw [List.length_append, hn_12]; rfl
        refine lv_aload_n hx hb dX7_writesTerm_92 rfl (lv_at hl 4 rfl) ?_
        refine lv_lload hx hb dX7_writesTerm_93 (lv_at hl 1 rfl) ?_
        have hF9 := va_free (wc := [(o 0, .inr (2, mFs o th p0 q0 r0 mu (zP ln at_ er ea vs wn op_ bw bb bp uf (wr_ + (wrN (topN M b)).length + 1)))), (o 10, .inl (dA 2, 1200, .inl fO_16))]) hD hS (fun q h => hA q h) [1, 2] rfl
        refine c_v (wr := [(o 5, .inl (dA 1, 2640, .inr (.inl fA)))]) (va_runV (As := [.long (lN (botN M b))]) (rest := []) ⟨hx, hb, hml, hown, hts⟩ (x7_writesNumber Z (va_A [(o 0, .inr (2, mFs o th p0 q0 r0 mu (zP ln at_ er ea vs wn op_ bw bb bp uf (wr_ + (wrN (topN M b)).length + 1)))), (o 10, .inl (dA 2, 1200, .inl fO_16))] H.size) H.size (fun q h => Or.inr h) o th p0 q0 r0 mu ln at_ er ea vs wn op_ bw bb bp uf (wr_ + (wrN (topN M b)).length + 1) fO_16 ((L ++ wrN (topN M b)) ++ [47]) (botN M b) hb1 hb8 hn_18 (by omega) hO_17) (cwV 1 hts (lw_V q2513 q2515 qs94 q107 q2516) rfl rfl rfl (by decide +kernel) ⟨Nat.le_of_ble_eq_true rfl, Nat.le_of_ble_eq_true rfl⟩) (gP_V (va_recv hK hP (ci := 2) (q0 := 1) rfl rfl) hG hS (fun q _ h => hF9 q h) ⟨rfl, (hP.sub (ws' := [(o 0, .inr (2, mFs o th p0 q0 r0 mu (zP ln at_ er ea vs wn op_ bw bb bp uf (wr_ + (wrN (topN M b)).length + 1)))), (o 10, .inl (dA 2, 1200, .inl fO_16))]) [1, 2] rfl), (hD.sub (ws' := [(o 0, .inr (2, mFs o th p0 q0 r0 mu (zP ln at_ er ea vs wn op_ bw bb bp uf (wr_ + (wrN (topN M b)).length + 1)))), (o 10, .inl (dA 2, 1200, .inl fO_16))]) [1, 2] (by decide) rfl).self⟩) rfl rfl hl.1 rfl (lv_room (Nat.le_of_ble_eq_true rfl)) dX7_writesTerm_95 ⟨by first | decide | omega, by first | decide | omega⟩) hP hD hS hA [1, 2] [0] rfl rfl (by decide) (by decide) (fun u9 H locs hq hX hz hk hP hD hS => ?_)
        obtain ⟨fO_19, rfl⟩ : ∃ z, z = u9 := ⟨_, rfl⟩
        have hO_20 := hq
        have hP : va_P (dC, dI) vwCl [(o 5, .inl (dA 1, 2640, .inr (.inl fA))), (o 0, .inr (2, mFs o th p0 q0 r0 mu (zP ln at_ er ea vs wn op_ bw bb bp uf (wr_ + (wrN (topN M b)).length + 1 + (wrN (botN M b)).length)))), (o 10, .inl (dA 2, 1200, .inl fO_19))] H := hP
        have hD : va_D A [(o 5, .inl (dA 1, 2640, .inr (.inl fA))), (o 0, .inr (2, mFs o th p0 q0 r0 mu (zP ln at_ er ea vs wn op_ bw bb bp uf (wr_ + (wrN (topN M b)).length + 1 + (wrN (botN M b)).length)))), (o 10, .inl (dA 2, 1200, .inl fO_19))] := hD
        have hn_21 : (((L ++ wrN (topN M b)) ++ [47]) ++ wrN (botN M b)).length = wr_ + (wrN (topN M b)).length + 1 + (wrN (botN M b)).length := by rw [List.length_append, hn_18]
        have hd_hn_21 := sb_dg8 (v := (botN M b)) (by omega)
        rw [← wrN_len] at hd_hn_21
        refine lv_iload_n hx hb dX7_writesTerm_98 rfl (lv_at hl 6 rfl) ?_
        refine lv_if_le (tgt := 108) hx hb dX7_writesTerm_99 (by decide) (fun c_99 => ?_) (fun c_99 => ?_)
        · have c_99 : b ≤ 0 := (nI_leI (a := b) (b := 0) (by omega) (by omega)).mp c_99
          have hc_99 : ¬ 0 < b := by omega
          exact J_2 fO_19 (wr_ + (wrN (topN M b)).length + 1 + (wrN (botN M b)).length) H locs ls (by rw [(show L ++ npL M b = (((L ++ wrN (topN M b)) ++ [47]) ++ wrN (botN M b)) from by rw [np_b (by omega), if_pos hc_83, if_neg hc_99]; simp only [List.append_assoc, List.append_nil, List.nil_append])]; exact hO_20) (by rw [(show L ++ npL M b = (((L ++ wrN (topN M b)) ++ [47]) ++ wrN (botN M b)) from by rw [np_b (by omega), if_pos hc_83, if_neg hc_99]; simp only [List.append_assoc, List.append_nil, List.nil_append])]; exact hn_21) (by omega) (hP.sub [1, 0, 2] rfl) (hD.sub [1, 0, 2] (by decide) rfl) hS (lv_sub hl [1, 2, 3, 4, 5, 6] rfl)
        · have c_99 : ¬ b ≤ 0 := fun h => c_99 ((nI_leI (a := b) (b := 0) (by omega) (by omega)).mpr h)
          have hc_99 : 0 < b := by omega
          refine lv_aload_n hx hb dX7_writesTerm_102 rfl (lv_at hl 4 rfl) ?_
          refine lv_bipush (v := nI 42) hx hb dX7_writesTerm_103 (by decide) ?_
          have hF9 := va_free (wc := [(o 0, .inr (2, mFs o th p0 q0 r0 mu (zP ln at_ er ea vs wn op_ bw bb bp uf (wr_ + (wrN (topN M b)).length + 1 + (wrN (botN M b)).length)))), (o 10, .inl (dA 2, 1200, .inl fO_19))]) hD hS (fun q h => hA q h) [1, 2] rfl
          refine c_v (wr := [(o 5, .inl (dA 1, 2640, .inr (.inl fA)))]) (va_runV (As := [.int (nI 42)]) (rest := []) ⟨hx, hb, hml, hown, hts⟩ (x7_writes Z (va_A [(o 0, .inr (2, mFs o th p0 q0 r0 mu (zP ln at_ er ea vs wn op_ bw bb bp uf (wr_ + (wrN (topN M b)).length + 1 + (wrN (botN M b)).length)))), (o 10, .inl (dA 2, 1200, .inl fO_19))] H.size) H.size (fun q h => Or.inr h) o th p0 q0 r0 mu ln at_ er ea vs wn op_ bw bb bp uf (wr_ + (wrN (topN M b)).length + 1 + (wrN (botN M b)).length) fO_19 42 (by omega)) (cwV 1 hts (lw_V q2505 q2507 qs92 q107 q2508) rfl rfl rfl (by decide +kernel) ⟨Nat.le_of_ble_eq_true rfl, Nat.le_of_ble_eq_true rfl⟩) (gP_V (va_recv hK hP (ci := 2) (q0 := 1) rfl rfl) hG hS (fun q _ h => hF9 q h) ⟨rfl, (hP.sub (ws' := [(o 0, .inr (2, mFs o th p0 q0 r0 mu (zP ln at_ er ea vs wn op_ bw bb bp uf (wr_ + (wrN (topN M b)).length + 1 + (wrN (botN M b)).length)))), (o 10, .inl (dA 2, 1200, .inl fO_19))]) [1, 2] rfl), (hD.sub (ws' := [(o 0, .inr (2, mFs o th p0 q0 r0 mu (zP ln at_ er ea vs wn op_ bw bb bp uf (wr_ + (wrN (topN M b)).length + 1 + (wrN (botN M b)).length)))), (o 10, .inl (dA 2, 1200, .inl fO_19))]) [1, 2] (by decide) rfl).self⟩) rfl rfl hl.1 rfl (lv_room (Nat.le_of_ble_eq_true rfl)) dX7_writesTerm_105 ⟨by first | decide | omega, by first | decide | omega⟩) hP hD hS hA [1, 2] [0] rfl rfl (by decide) (by decide) (fun u9 H locs hq hX hz hk hP hD hS => ?_)
          have hP : va_P (dC, dI) vwCl [(o 5, .inl (dA 1, 2640, .inr (.inl fA))), (o 0, .inr (2, mFs o th p0 q0 r0 mu (zP ln at_ er ea vs wn op_ bw bb bp uf (wr_ + (wrN (topN M b)).length + 1 + (wrN (botN M b)).length + 1)))), (o 10, .inl (dA 2, 1200, .inl (upd fO_19 (wr_ + (wrN (topN M b)).length + 1 + (wrN (botN M b)).length) (sb_b 42))))] H := hP
          have hD : va_D A [(o 5, .inl (dA 1, 2640, .inr (.inl fA))), (o 0, .inr (2, mFs o th p0 q0 r0 mu (zP ln at_ er ea vs wn op_ bw bb bp uf (wr_ + (wrN (topN M b)).length + 1 + (wrN (botN M b)).length + 1)))), (o 10, .inl (dA 2, 1200, .inl (upd fO_19 (wr_ + (wrN (topN M b)).length + 1 + (wrN (botN M b)).length) (sb_b 42))))] := hD
          have hO_23 := OutH.add (c := 42) hO_20 hn_21
          generalize upd fO_19 (wr_ + (wrN (topN M b)).length + 1 + (wrN (botN M b)).length) (sb_b 42) = fO_22 at hP hD hO_23
          have hn_24 : ((((L ++ wrN (topN M b)) ++ [47]) ++ wrN (botN M b)) ++ [42]).length = wr_ + (wrN (topN M b)).length + 1 + (wrN (botN M b)).length + 1 := by rw [List.length_append, hn_21]; rfl
          exact J_2 fO_22 (wr_ + (wrN (topN M b)).length + 1 + (wrN (botN M b)).length + 1) H locs ls (by rw [(show L ++ npL M b = ((((L ++ wrN (topN M b)) ++ [47]) ++ wrN (botN M b)) ++ [42]) from by rw [np_b (by omega), if_pos hc_83, if_pos hc_99]; simp only [List.append_assoc, List.append_nil, List.nil_append])]; exact hO_23) (by rw [(show L ++ npL M b = ((((L ++ wrN (topN M b)) ++ [47]) ++ wrN (botN M b)) ++ [42]) from by rw [np_b (by omega), if_pos hc_83, if_pos hc_99]; simp only [List.append_assoc, List.append_nil, List.nil_append])]; exact hn_24) (by omega) (hP.sub [1, 0, 2] rfl) (hD.sub [1, 0, 2] (by decide) rfl) hS (lv_sub hl [1, 2, 3, 4, 5, 6] rfl)
    · have c_47 : (lN (topN M b)) = 1 := (lg_cmp_eq _ _).mp c_47
      have hc_47 : topN M b = 1 := (pk_lEQ (b := 1) (by omega) (by decide)).mp c_47
      refine lv_lload hx hb dX7_writesTerm_50 (lv_at hl 0 rfl) ?_
      refine lv_lconst (v := 1) hx hb dX7_writesTerm_52 rfl ?_
      refine W.lcmp hx hb dX7_writesTerm_53 ?_
      refine lv_if_ne (tgt := 61) hx hb dX7_writesTerm_54 (by decide) (fun c_54 => ?_) (fun c_54 => ?_)
      · have c_54 : ¬ (lN (botN M b)) = 1 := fun h => c_54 ((lg_cmp_eq _ _).mpr h)
        have hc_54 : ¬ botN M b = 1 := fun h => c_54 (by rw [h]; rfl)
        refine lv_iconst (v := nI 0) hx hb dX7_writesTerm_61 (by decide) ?_
        refine lv_istore (lv' := [(9, .int (nI 0)), (7, .long (lN (botN M b))), (5, .long (lN (topN M b))), (3, .long (lN (Nat.gcd (aN (M 0)) (aN (M (b + 1)))))), (0, .ref (o 0)), (1, .int (nI k1)), (2, .int (nI b))]) hx hb dX7_writesTerm_62 hl (by decide) rfl (fun ls hl => ?_)
        refine lv_iload hx hb dX7_writesTerm_64 (lv_at hl 0 rfl) ?_
        refine lv_if_eq (tgt := 73) hx hb dX7_writesTerm_66 (by decide) (fun c_66 => ?_) (fun c_66 => ?_)
        rotate_left
        · exact absurd (by decide) c_66
        refine lv_aload_n hx hb dX7_writesTerm_73 rfl (lv_at hl 4 rfl) ?_
        refine lv_lload hx hb dX7_writesTerm_74 (lv_at hl 2 rfl) ?_
        have hF9 := va_free (wc := [(o 0, .inr (2, mFs o th p0 q0 r0 mu (zP ln at_ er ea vs wn op_ bw bb bp uf wr_))), (o 10, .inl (dA 2, 1200, .inl fO))]) hD hS (fun q h => hA q h) [0, 2] rfl
        refine c_v (wr := [(o 5, .inl (dA 1, 2640, .inr (.inl fA)))]) (va_runV (As := [.long (lN (topN M b))]) (rest := []) ⟨hx, hb, hml, hown, hts⟩ (x7_writesNumber Z (va_A [(o 0, .inr (2, mFs o th p0 q0 r0 mu (zP ln at_ er ea vs wn op_ bw bb bp uf wr_))), (o 10, .inl (dA 2, 1200, .inl fO))] H.size) H.size (fun q h => Or.inr h) o th p0 q0 r0 mu ln at_ er ea vs wn op_ bw bb bp uf wr_ fO L (topN M b) ht1 ht8 hn9 (by omega) hO) (cwV 1 hts (lw_V q2513 q2515 qs94 q107 q2516) rfl rfl rfl (by decide +kernel) ⟨Nat.le_of_ble_eq_true rfl, Nat.le_of_ble_eq_true rfl⟩) (gP_V (va_recv hK hP (ci := 2) (q0 := 0) rfl rfl) hG hS (fun q _ h => hF9 q h) ⟨rfl, (hP.sub (ws' := [(o 0, .inr (2, mFs o th p0 q0 r0 mu (zP ln at_ er ea vs wn op_ bw bb bp uf wr_))), (o 10, .inl (dA 2, 1200, .inl fO))]) [0, 2] rfl), (hD.sub (ws' := [(o 0, .inr (2, mFs o th p0 q0 r0 mu (zP ln at_ er ea vs wn op_ bw bb bp uf wr_))), (o 10, .inl (dA 2, 1200, .inl fO))]) [0, 2] (by decide) rfl).self⟩) rfl rfl hl.1 rfl (lv_room (Nat.le_of_ble_eq_true rfl)) dX7_writesTerm_76 ⟨by first | decide | omega, by first | decide | omega⟩) hP hD hS hA [0, 2] [1] rfl rfl (by decide) (by decide) (fun u9 H locs hq hX hz hk hP hD hS => ?_)
        obtain ⟨fO_25, rfl⟩ : ∃ z, z = u9 := ⟨_, rfl⟩
        have hO_26 := hq
        have hP : va_P (dC, dI) vwCl [(o 5, .inl (dA 1, 2640, .inr (.inl fA))), (o 0, .inr (2, mFs o th p0 q0 r0 mu (zP ln at_ er ea vs wn op_ bw bb bp uf (wr_ + (wrN (topN M b)).length)))), (o 10, .inl (dA 2, 1200, .inl fO_25))] H := hP
        have hD : va_D A [(o 5, .inl (dA 1, 2640, .inr (.inl fA))), (o 0, .inr (2, mFs o th p0 q0 r0 mu (zP ln at_ er ea vs wn op_ bw bb bp uf (wr_ + (wrN (topN M b)).length)))), (o 10, .inl (dA 2, 1200, .inl fO_25))] := hD
        have hn_27 : (L ++ wrN (topN M b)).length = wr_ + (wrN (topN M b)).length := by rw [List.length_append, hn9]
        have hd_hn_27 := sb_dg8 (v := (topN M b)) (by omega)
        rw [← wrN_len] at hd_hn_27
        refine lv_lload hx hb dX7_writesTerm_79 (lv_at hl 1 rfl) ?_
        refine lv_lconst (v := 1) hx hb dX7_writesTerm_81 rfl ?_
        refine W.lcmp hx hb dX7_writesTerm_82 ?_
        refine lv_if_le (tgt := 98) hx hb dX7_writesTerm_83 (by decide) (fun c_83 => ?_) (fun c_83 => ?_)
        · have c_83 : (lN (botN M b)) ≤ 1 := (lg_cmp_le _ _).mp c_83
          have hc_83 : ¬ 1 < botN M b := fun h => absurd ((pk_lLT (a := 1) (by decide) (by omega)).mpr h) (Int64.not_lt.mpr c_83)
          refine lv_iload_n hx hb dX7_writesTerm_98 rfl (lv_at hl 6 rfl) ?_
          refine lv_if_le (tgt := 108) hx hb dX7_writesTerm_99 (by decide) (fun c_99 => ?_) (fun c_99 => ?_)
          · have c_99 : b ≤ 0 := (nI_leI (a := b) (b := 0) (by omega) (by omega)).mp c_99
            have hc_99 : ¬ 0 < b := by omega
            exact J_2 fO_25 (wr_ + (wrN (topN M b)).length) H locs ls (by rw [(show L ++ npL M b = (L ++ wrN (topN M b)) from by rw [np_b (by omega), if_neg hc_83, if_neg hc_99]; simp only [List.append_assoc, List.append_nil, List.nil_append])]; exact hO_26) (by rw [(show L ++ npL M b = (L ++ wrN (topN M b)) from by rw [np_b (by omega), if_neg hc_83, if_neg hc_99]; simp only [List.append_assoc, List.append_nil, List.nil_append])]; exact hn_27) (by omega) (hP.sub [1, 0, 2] rfl) (hD.sub [1, 0, 2] (by decide) rfl) hS (lv_sub hl [1, 2, 3, 4, 5, 6] rfl)
          · have c_99 : ¬ b ≤ 0 := fun h => c_99 ((nI_leI (a := b) (b := 0) (by omega) (by omega)).mpr h)
            have hc_99 : 0 < b := by omega
            refine lv_aload_n hx hb dX7_writesTerm_102 rfl (lv_at hl 4 rfl) ?_
            refine lv_bipush (v := nI 42) hx hb dX7_writesTerm_103 (by decide) ?_
            have hF9 := va_free (wc := [(o 0, .inr (2, mFs o th p0 q0 r0 mu (zP ln at_ er ea vs wn op_ bw bb bp uf (wr_ + (wrN (topN M b)).length)))), (o 10, .inl (dA 2, 1200, .inl fO_25))]) hD hS (fun q h => hA q h) [1, 2] rfl
            refine c_v (wr := [(o 5, .inl (dA 1, 2640, .inr (.inl fA)))]) (va_runV (As := [.int (nI 42)]) (rest := []) ⟨hx, hb, hml, hown, hts⟩ (x7_writes Z (va_A [(o 0, .inr (2, mFs o th p0 q0 r0 mu (zP ln at_ er ea vs wn op_ bw bb bp uf (wr_ + (wrN (topN M b)).length)))), (o 10, .inl (dA 2, 1200, .inl fO_25))] H.size) H.size (fun q h => Or.inr h) o th p0 q0 r0 mu ln at_ er ea vs wn op_ bw bb bp uf (wr_ + (wrN (topN M b)).length) fO_25 42 (by omega)) (cwV 1 hts (lw_V q2505 q2507 qs92 q107 q2508) rfl rfl rfl (by decide +kernel) ⟨Nat.le_of_ble_eq_true rfl, Nat.le_of_ble_eq_true rfl⟩) (gP_V (va_recv hK hP (ci := 2) (q0 := 1) rfl rfl) hG hS (fun q _ h => hF9 q h) ⟨rfl, (hP.sub (ws' := [(o 0, .inr (2, mFs o th p0 q0 r0 mu (zP ln at_ er ea vs wn op_ bw bb bp uf (wr_ + (wrN (topN M b)).length)))), (o 10, .inl (dA 2, 1200, .inl fO_25))]) [1, 2] rfl), (hD.sub (ws' := [(o 0, .inr (2, mFs o th p0 q0 r0 mu (zP ln at_ er ea vs wn op_ bw bb bp uf (wr_ + (wrN (topN M b)).length)))), (o 10, .inl (dA 2, 1200, .inl fO_25))]) [1, 2] (by decide) rfl).self⟩) rfl rfl hl.1 rfl (lv_room (Nat.le_of_ble_eq_true rfl)) dX7_writesTerm_105 ⟨by first | decide | omega, by first | decide | omega⟩) hP hD hS hA [1, 2] [0] rfl rfl (by decide) (by decide) (fun u9 H locs hq hX hz hk hP hD hS => ?_)
            have hP : va_P (dC, dI) vwCl [(o 5, .inl (dA 1, 2640, .inr (.inl fA))), (o 0, .inr (2, mFs o th p0 q0 r0 mu (zP ln at_ er ea vs wn op_ bw bb bp uf (wr_ + (wrN (topN M b)).length + 1)))), (o 10, .inl (dA 2, 1200, .inl (upd fO_25 (wr_ + (wrN (topN M b)).length) (sb_b 42))))] H := hP
            have hD : va_D A [(o 5, .inl (dA 1, 2640, .inr (.inl fA))), (o 0, .inr (2, mFs o th p0 q0 r0 mu (zP ln at_ er ea vs wn op_ bw bb bp uf (wr_ + (wrN (topN M b)).length + 1)))), (o 10, .inl (dA 2, 1200, .inl (upd fO_25 (wr_ + (wrN (topN M b)).length) (sb_b 42))))] := hD
            have hO_29 := OutH.add (c := 42) hO_26 hn_27
            generalize upd fO_25 (wr_ + (wrN (topN M b)).length) (sb_b 42) = fO_28 at hP hD hO_29
            have hn_30 : ((L ++ wrN (topN M b)) ++ [42]).length = wr_ + (wrN (topN M b)).length + 1 := by rw [List.length_append, hn_27]; rfl
            exact J_2 fO_28 (wr_ + (wrN (topN M b)).length + 1) H locs ls (by rw [(show L ++ npL M b = ((L ++ wrN (topN M b)) ++ [42]) from by rw [np_b (by omega), if_neg hc_83, if_pos hc_99]; simp only [List.append_assoc, List.append_nil, List.nil_append])]; exact hO_29) (by rw [(show L ++ npL M b = ((L ++ wrN (topN M b)) ++ [42]) from by rw [np_b (by omega), if_neg hc_83, if_pos hc_99]; simp only [List.append_assoc, List.append_nil, List.nil_append])]; exact hn_30) (by omega) (hP.sub [1, 0, 2] rfl) (hD.sub [1, 0, 2] (by decide) rfl) hS (lv_sub hl [1, 2, 3, 4, 5, 6] rfl)
        · have c_83 : ¬ (lN (botN M b)) ≤ 1 := fun h => c_83 ((lg_cmp_le _ _).mpr h)
          have hc_83 : 1 < botN M b := (pk_lLT (a := 1) (by decide) (by omega)).mp (Int64.not_le.mp c_83)
          refine lv_aload_n hx hb dX7_writesTerm_86 rfl (lv_at hl 4 rfl) ?_
          refine lv_bipush (v := nI 47) hx hb dX7_writesTerm_87 (by decide) ?_
          have hF9 := va_free (wc := [(o 0, .inr (2, mFs o th p0 q0 r0 mu (zP ln at_ er ea vs wn op_ bw bb bp uf (wr_ + (wrN (topN M b)).length)))), (o 10, .inl (dA 2, 1200, .inl fO_25))]) hD hS (fun q h => hA q h) [1, 2] rfl
          refine c_v (wr := [(o 5, .inl (dA 1, 2640, .inr (.inl fA)))]) (va_runV (As := [.int (nI 47)]) (rest := []) ⟨hx, hb, hml, hown, hts⟩ (x7_writes Z (va_A [(o 0, .inr (2, mFs o th p0 q0 r0 mu (zP ln at_ er ea vs wn op_ bw bb bp uf (wr_ + (wrN (topN M b)).length)))), (o 10, .inl (dA 2, 1200, .inl fO_25))] H.size) H.size (fun q h => Or.inr h) o th p0 q0 r0 mu ln at_ er ea vs wn op_ bw bb bp uf (wr_ + (wrN (topN M b)).length) fO_25 47 (by omega)) (cwV 1 hts (lw_V q2505 q2507 qs92 q107 q2508) rfl rfl rfl (by decide +kernel) ⟨Nat.le_of_ble_eq_true rfl, Nat.le_of_ble_eq_true rfl⟩) (gP_V (va_recv hK hP (ci := 2) (q0 := 1) rfl rfl) hG hS (fun q _ h => hF9 q h) ⟨rfl, (hP.sub (ws' := [(o 0, .inr (2, mFs o th p0 q0 r0 mu (zP ln at_ er ea vs wn op_ bw bb bp uf (wr_ + (wrN (topN M b)).length)))), (o 10, .inl (dA 2, 1200, .inl fO_25))]) [1, 2] rfl), (hD.sub (ws' := [(o 0, .inr (2, mFs o th p0 q0 r0 mu (zP ln at_ er ea vs wn op_ bw bb bp uf (wr_ + (wrN (topN M b)).length)))), (o 10, .inl (dA 2, 1200, .inl fO_25))]) [1, 2] (by decide) rfl).self⟩) rfl rfl hl.1 rfl (lv_room (Nat.le_of_ble_eq_true rfl)) dX7_writesTerm_89 ⟨by first | decide | omega, by first | decide | omega⟩) hP hD hS hA [1, 2] [0] rfl rfl (by decide) (by decide) (fun u9 H locs hq hX hz hk hP hD hS => ?_)
          have hP : va_P (dC, dI) vwCl [(o 5, .inl (dA 1, 2640, .inr (.inl fA))), (o 0, .inr (2, mFs o th p0 q0 r0 mu (zP ln at_ er ea vs wn op_ bw bb bp uf (wr_ + (wrN (topN M b)).length + 1)))), (o 10, .inl (dA 2, 1200, .inl (upd fO_25 (wr_ + (wrN (topN M b)).length) (sb_b 47))))] H := hP
          have hD : va_D A [(o 5, .inl (dA 1, 2640, .inr (.inl fA))), (o 0, .inr (2, mFs o th p0 q0 r0 mu (zP ln at_ er ea vs wn op_ bw bb bp uf (wr_ + (wrN (topN M b)).length + 1)))), (o 10, .inl (dA 2, 1200, .inl (upd fO_25 (wr_ + (wrN (topN M b)).length) (sb_b 47))))] := hD
          have hO_32 := OutH.add (c := 47) hO_26 hn_27
          generalize upd fO_25 (wr_ + (wrN (topN M b)).length) (sb_b 47) = fO_31 at hP hD hO_32
          have hn_33 : ((L ++ wrN (topN M b)) ++ [47]).length = wr_ + (wrN (topN M b)).length + 1 := by rw [List.length_append, hn_27]; rfl
          refine lv_aload_n hx hb dX7_writesTerm_92 rfl (lv_at hl 4 rfl) ?_
          refine lv_lload hx hb dX7_writesTerm_93 (lv_at hl 1 rfl) ?_
          have hF9 := va_free (wc := [(o 0, .inr (2, mFs o th p0 q0 r0 mu (zP ln at_ er ea vs wn op_ bw bb bp uf (wr_ + (wrN (topN M b)).length + 1)))), (o 10, .inl (dA 2, 1200, .inl fO_31))]) hD hS (fun q h => hA q h) [1, 2] rfl
          refine c_v (wr := [(o 5, .inl (dA 1, 2640, .inr (.inl fA)))]) (va_runV (As := [.long (lN (botN M b))]) (rest := []) ⟨hx, hb, hml, hown, hts⟩ (x7_writesNumber Z (va_A [(o 0, .inr (2, mFs o th p0 q0 r0 mu (zP ln at_ er ea vs wn op_ bw bb bp uf (wr_ + (wrN (topN M b)).length + 1)))), (o 10, .inl (dA 2, 1200, .inl fO_31))] H.size) H.size (fun q h => Or.inr h) o th p0 q0 r0 mu ln at_ er ea vs wn op_ bw bb bp uf (wr_ + (wrN (topN M b)).length + 1) fO_31 ((L ++ wrN (topN M b)) ++ [47]) (botN M b) hb1 hb8 hn_33 (by omega) hO_32) (cwV 1 hts (lw_V q2513 q2515 qs94 q107 q2516) rfl rfl rfl (by decide +kernel) ⟨Nat.le_of_ble_eq_true rfl, Nat.le_of_ble_eq_true rfl⟩) (gP_V (va_recv hK hP (ci := 2) (q0 := 1) rfl rfl) hG hS (fun q _ h => hF9 q h) ⟨rfl, (hP.sub (ws' := [(o 0, .inr (2, mFs o th p0 q0 r0 mu (zP ln at_ er ea vs wn op_ bw bb bp uf (wr_ + (wrN (topN M b)).length + 1)))), (o 10, .inl (dA 2, 1200, .inl fO_31))]) [1, 2] rfl), (hD.sub (ws' := [(o 0, .inr (2, mFs o th p0 q0 r0 mu (zP ln at_ er ea vs wn op_ bw bb bp uf (wr_ + (wrN (topN M b)).length + 1)))), (o 10, .inl (dA 2, 1200, .inl fO_31))]) [1, 2] (by decide) rfl).self⟩) rfl rfl hl.1 rfl (lv_room (Nat.le_of_ble_eq_true rfl)) dX7_writesTerm_95 ⟨by first | decide | omega, by first | decide | omega⟩) hP hD hS hA [1, 2] [0] rfl rfl (by decide) (by decide) (fun u9 H locs hq hX hz hk hP hD hS => ?_)
          obtain ⟨fO_34, rfl⟩ : ∃ z, z = u9 := ⟨_, rfl⟩
          have hO_35 := hq
          have hP : va_P (dC, dI) vwCl [(o 5, .inl (dA 1, 2640, .inr (.inl fA))), (o 0, .inr (2, mFs o th p0 q0 r0 mu (zP ln at_ er ea vs wn op_ bw bb bp uf (wr_ + (wrN (topN M b)).length + 1 + (wrN (botN M b)).length)))), (o 10, .inl (dA 2, 1200, .inl fO_34))] H := hP
          have hD : va_D A [(o 5, .inl (dA 1, 2640, .inr (.inl fA))), (o 0, .inr (2, mFs o th p0 q0 r0 mu (zP ln at_ er ea vs wn op_ bw bb bp uf (wr_ + (wrN (topN M b)).length + 1 + (wrN (botN M b)).length)))), (o 10, .inl (dA 2, 1200, .inl fO_34))] := hD
          have hn_36 : (((L ++ wrN (topN M b)) ++ [47]) ++ wrN (botN M b)).length = wr_ + (wrN (topN M b)).length + 1 + (wrN (botN M b)).length := by rw [List.length_append, hn_33]
          have hd_hn_36 := sb_dg8 (v := (botN M b)) (by omega)
          rw [← wrN_len] at hd_hn_36
          refine lv_iload_n hx hb dX7_writesTerm_98 rfl (lv_at hl 6 rfl) ?_
          refine lv_if_le (tgt := 108) hx hb dX7_writesTerm_99 (by decide) (fun c_99 => ?_) (fun c_99 => ?_)
          · have c_99 : b ≤ 0 := (nI_leI (a := b) (b := 0) (by omega) (by omega)).mp c_99
            have hc_99 : ¬ 0 < b := by omega
            exact J_2 fO_34 (wr_ + (wrN (topN M b)).length + 1 + (wrN (botN M b)).length) H locs ls (by rw [(show L ++ npL M b = (((L ++ wrN (topN M b)) ++ [47]) ++ wrN (botN M b)) from by rw [np_b (by omega), if_pos hc_83, if_neg hc_99]; simp only [List.append_assoc, List.append_nil, List.nil_append])]; exact hO_35) (by rw [(show L ++ npL M b = (((L ++ wrN (topN M b)) ++ [47]) ++ wrN (botN M b)) from by rw [np_b (by omega), if_pos hc_83, if_neg hc_99]; simp only [List.append_assoc, List.append_nil, List.nil_append])]; exact hn_36) (by omega) (hP.sub [1, 0, 2] rfl) (hD.sub [1, 0, 2] (by decide) rfl) hS (lv_sub hl [1, 2, 3, 4, 5, 6] rfl)
          · have c_99 : ¬ b ≤ 0 := fun h => c_99 ((nI_leI (a := b) (b := 0) (by omega) (by omega)).mpr h)
            have hc_99 : 0 < b := by omega
            refine lv_aload_n hx hb dX7_writesTerm_102 rfl (lv_at hl 4 rfl) ?_
            refine lv_bipush (v := nI 42) hx hb dX7_writesTerm_103 (by decide) ?_
            have hF9 := va_free (wc := [(o 0, .inr (2, mFs o th p0 q0 r0 mu (zP ln at_ er ea vs wn op_ bw bb bp uf (wr_ + (wrN (topN M b)).length + 1 + (wrN (botN M b)).length)))), (o 10, .inl (dA 2, 1200, .inl fO_34))]) hD hS (fun q h => hA q h) [1, 2] rfl
            refine c_v (wr := [(o 5, .inl (dA 1, 2640, .inr (.inl fA)))]) (va_runV (As := [.int (nI 42)]) (rest := []) ⟨hx, hb, hml, hown, hts⟩ (x7_writes Z (va_A [(o 0, .inr (2, mFs o th p0 q0 r0 mu (zP ln at_ er ea vs wn op_ bw bb bp uf (wr_ + (wrN (topN M b)).length + 1 + (wrN (botN M b)).length)))), (o 10, .inl (dA 2, 1200, .inl fO_34))] H.size) H.size (fun q h => Or.inr h) o th p0 q0 r0 mu ln at_ er ea vs wn op_ bw bb bp uf (wr_ + (wrN (topN M b)).length + 1 + (wrN (botN M b)).length) fO_34 42 (by omega)) (cwV 1 hts (lw_V q2505 q2507 qs92 q107 q2508) rfl rfl rfl (by decide +kernel) ⟨Nat.le_of_ble_eq_true rfl, Nat.le_of_ble_eq_true rfl⟩) (gP_V (va_recv hK hP (ci := 2) (q0 := 1) rfl rfl) hG hS (fun q _ h => hF9 q h) ⟨rfl, (hP.sub (ws' := [(o 0, .inr (2, mFs o th p0 q0 r0 mu (zP ln at_ er ea vs wn op_ bw bb bp uf (wr_ + (wrN (topN M b)).length + 1 + (wrN (botN M b)).length)))), (o 10, .inl (dA 2, 1200, .inl fO_34))]) [1, 2] rfl), (hD.sub (ws' := [(o 0, .inr (2, mFs o th p0 q0 r0 mu (zP ln at_ er ea vs wn op_ bw bb bp uf (wr_ + (wrN (topN M b)).length + 1 + (wrN (botN M b)).length)))), (o 10, .inl (dA 2, 1200, .inl fO_34))]) [1, 2] (by decide) rfl).self⟩) rfl rfl hl.1 rfl (lv_room (Nat.le_of_ble_eq_true rfl)) dX7_writesTerm_105 ⟨by first | decide | omega, by first | decide | omega⟩) hP hD hS hA [1, 2] [0] rfl rfl (by decide) (by decide) (fun u9 H locs hq hX hz hk hP hD hS => ?_)
            have hP : va_P (dC, dI) vwCl [(o 5, .inl (dA 1, 2640, .inr (.inl fA))), (o 0, .inr (2, mFs o th p0 q0 r0 mu (zP ln at_ er ea vs wn op_ bw bb bp uf (wr_ + (wrN (topN M b)).length + 1 + (wrN (botN M b)).length + 1)))), (o 10, .inl (dA 2, 1200, .inl (upd fO_34 (wr_ + (wrN (topN M b)).length + 1 + (wrN (botN M b)).length) (sb_b 42))))] H := hP
            have hD : va_D A [(o 5, .inl (dA 1, 2640, .inr (.inl fA))), (o 0, .inr (2, mFs o th p0 q0 r0 mu (zP ln at_ er ea vs wn op_ bw bb bp uf (wr_ + (wrN (topN M b)).length + 1 + (wrN (botN M b)).length + 1)))), (o 10, .inl (dA 2, 1200, .inl (upd fO_34 (wr_ + (wrN (topN M b)).length + 1 + (wrN (botN M b)).length) (sb_b 42))))] := hD
            have hO_38 := OutH.add (c := 42) hO_35 hn_36
            generalize upd fO_34 (wr_ + (wrN (topN M b)).length + 1 + (wrN (botN M b)).length) (sb_b 42) = fO_37 at hP hD hO_38
            have hn_39 : ((((L ++ wrN (topN M b)) ++ [47]) ++ wrN (botN M b)) ++ [42]).length = wr_ + (wrN (topN M b)).length + 1 + (wrN (botN M b)).length + 1 := by rw [List.length_append, hn_36]; rfl
            exact J_2 fO_37 (wr_ + (wrN (topN M b)).length + 1 + (wrN (botN M b)).length + 1) H locs ls (by rw [(show L ++ npL M b = ((((L ++ wrN (topN M b)) ++ [47]) ++ wrN (botN M b)) ++ [42]) from by rw [np_b (by omega), if_pos hc_83, if_pos hc_99]; simp only [List.append_assoc, List.append_nil, List.nil_append])]; exact hO_38) (by rw [(show L ++ npL M b = ((((L ++ wrN (topN M b)) ++ [47]) ++ wrN (botN M b)) ++ [42]) from by rw [np_b (by omega), if_pos hc_83, if_pos hc_99]; simp only [List.append_assoc, List.append_nil, List.nil_append])]; exact hn_39) (by omega) (hP.sub [1, 0, 2] rfl) (hD.sub [1, 0, 2] (by decide) rfl) hS (lv_sub hl [1, 2, 3, 4, 5, 6] rfl)
      · have c_54 : (lN (botN M b)) = 1 := (lg_cmp_eq _ _).mp c_54
        have hc_54 : botN M b = 1 := (pk_lEQ (b := 1) (by omega) (by decide)).mp c_54
        refine lv_iconst (v := nI 1) hx hb dX7_writesTerm_57 (by decide) ?_
        refine lv_goto (tgt := 62) hx hb dX7_writesTerm_58 (by decide) ?_
        refine lv_istore (lv' := [(9, .int (nI 1)), (7, .long (lN (botN M b))), (5, .long (lN (topN M b))), (3, .long (lN (Nat.gcd (aN (M 0)) (aN (M (b + 1)))))), (0, .ref (o 0)), (1, .int (nI k1)), (2, .int (nI b))]) hx hb dX7_writesTerm_62 hl (by decide) rfl (fun ls hl => ?_)
        refine lv_iload hx hb dX7_writesTerm_64 (lv_at hl 0 rfl) ?_
        refine lv_if_eq (tgt := 73) hx hb dX7_writesTerm_66 (by decide) (fun c_66 => ?_) (fun c_66 => ?_)
        · exact absurd c_66 (by decide)
        refine lv_iload_n hx hb dX7_writesTerm_69 rfl (lv_at hl 6 rfl) ?_
        refine lv_if_ne (tgt := 108) hx hb dX7_writesTerm_70 (by decide) (fun c_70 => ?_) (fun c_70 => ?_)
        · have c_70 : ¬ b = 0 := fun h => c_70 ((nI_eq (a := b) (b := 0) (by omega) (by omega)).mpr h)
          exact J_2 fO wr_ H locs ls (by rw [(show L ++ npL M b = L from by rw [np_a hc_47 hc_54 c_70, List.append_nil])]; exact hO) (by rw [(show L ++ npL M b = L from by rw [np_a hc_47 hc_54 c_70, List.append_nil])]; exact hn9) (by omega) (hP.sub [0, 1, 2] rfl) (hD.sub [0, 1, 2] (by decide) rfl) hS (lv_sub hl [1, 2, 3, 4, 5, 6] rfl)
        · have c_70 : b = 0 := (nI_eq (a := b) (b := 0) (by omega) (by omega)).mp c_70
          refine lv_aload_n hx hb dX7_writesTerm_73 rfl (lv_at hl 4 rfl) ?_
          refine lv_lload hx hb dX7_writesTerm_74 (lv_at hl 2 rfl) ?_
          have hF9 := va_free (wc := [(o 0, .inr (2, mFs o th p0 q0 r0 mu (zP ln at_ er ea vs wn op_ bw bb bp uf wr_))), (o 10, .inl (dA 2, 1200, .inl fO))]) hD hS (fun q h => hA q h) [0, 2] rfl
          refine c_v (wr := [(o 5, .inl (dA 1, 2640, .inr (.inl fA)))]) (va_runV (As := [.long (lN (topN M b))]) (rest := []) ⟨hx, hb, hml, hown, hts⟩ (x7_writesNumber Z (va_A [(o 0, .inr (2, mFs o th p0 q0 r0 mu (zP ln at_ er ea vs wn op_ bw bb bp uf wr_))), (o 10, .inl (dA 2, 1200, .inl fO))] H.size) H.size (fun q h => Or.inr h) o th p0 q0 r0 mu ln at_ er ea vs wn op_ bw bb bp uf wr_ fO L (topN M b) ht1 ht8 hn9 (by omega) hO) (cwV 1 hts (lw_V q2513 q2515 qs94 q107 q2516) rfl rfl rfl (by decide +kernel) ⟨Nat.le_of_ble_eq_true rfl, Nat.le_of_ble_eq_true rfl⟩) (gP_V (va_recv hK hP (ci := 2) (q0 := 0) rfl rfl) hG hS (fun q _ h => hF9 q h) ⟨rfl, (hP.sub (ws' := [(o 0, .inr (2, mFs o th p0 q0 r0 mu (zP ln at_ er ea vs wn op_ bw bb bp uf wr_))), (o 10, .inl (dA 2, 1200, .inl fO))]) [0, 2] rfl), (hD.sub (ws' := [(o 0, .inr (2, mFs o th p0 q0 r0 mu (zP ln at_ er ea vs wn op_ bw bb bp uf wr_))), (o 10, .inl (dA 2, 1200, .inl fO))]) [0, 2] (by decide) rfl).self⟩) rfl rfl hl.1 rfl (lv_room (Nat.le_of_ble_eq_true rfl)) dX7_writesTerm_76 ⟨by first | decide | omega, by first | decide | omega⟩) hP hD hS hA [0, 2] [1] rfl rfl (by decide) (by decide) (fun u9 H locs hq hX hz hk hP hD hS => ?_)
          obtain ⟨fO_40, rfl⟩ : ∃ z, z = u9 := ⟨_, rfl⟩
          have hO_41 := hq
          have hP : va_P (dC, dI) vwCl [(o 5, .inl (dA 1, 2640, .inr (.inl fA))), (o 0, .inr (2, mFs o th p0 q0 r0 mu (zP ln at_ er ea vs wn op_ bw bb bp uf (wr_ + (wrN (topN M b)).length)))), (o 10, .inl (dA 2, 1200, .inl fO_40))] H := hP
          have hD : va_D A [(o 5, .inl (dA 1, 2640, .inr (.inl fA))), (o 0, .inr (2, mFs o th p0 q0 r0 mu (zP ln at_ er ea vs wn op_ bw bb bp uf (wr_ + (wrN (topN M b)).length)))), (o 10, .inl (dA 2, 1200, .inl fO_40))] := hD
          have hn_42 : (L ++ wrN (topN M b)).length = wr_ + (wrN (topN M b)).length := by rw [List.length_append, hn9]
          have hd_hn_42 := sb_dg8 (v := (topN M b)) (by omega)
          rw [← wrN_len] at hd_hn_42
          refine lv_lload hx hb dX7_writesTerm_79 (lv_at hl 1 rfl) ?_
          refine lv_lconst (v := 1) hx hb dX7_writesTerm_81 rfl ?_
          refine W.lcmp hx hb dX7_writesTerm_82 ?_
          refine lv_if_le (tgt := 98) hx hb dX7_writesTerm_83 (by decide) (fun c_83 => ?_) (fun c_83 => ?_)
          · have c_83 : (lN (botN M b)) ≤ 1 := (lg_cmp_le _ _).mp c_83
            have hc_83 : ¬ 1 < botN M b := fun h => absurd ((pk_lLT (a := 1) (by decide) (by omega)).mpr h) (Int64.not_lt.mpr c_83)
            refine lv_iload_n hx hb dX7_writesTerm_98 rfl (lv_at hl 6 rfl) ?_
            refine lv_if_le (tgt := 108) hx hb dX7_writesTerm_99 (by decide) (fun c_99 => ?_) (fun c_99 => ?_)
            · have c_99 : b ≤ 0 := (nI_leI (a := b) (b := 0) (by omega) (by omega)).mp c_99
              have hc_99 : ¬ 0 < b := by omega
              exact J_2 fO_40 (wr_ + (wrN (topN M b)).length) H locs ls (by rw [(show L ++ npL M b = (L ++ wrN (topN M b)) from by rw [np_b (by omega), if_neg hc_83, if_neg hc_99]; simp only [List.append_assoc, List.append_nil, List.nil_append])]; exact hO_41) (by rw [(show L ++ npL M b = (L ++ wrN (topN M b)) from by rw [np_b (by omega), if_neg hc_83, if_neg hc_99]; simp only [List.append_assoc, List.append_nil, List.nil_append])]; exact hn_42) (by omega) (hP.sub [1, 0, 2] rfl) (hD.sub [1, 0, 2] (by decide) rfl) hS (lv_sub hl [1, 2, 3, 4, 5, 6] rfl)
            · have c_99 : ¬ b ≤ 0 := fun h => c_99 ((nI_leI (a := b) (b := 0) (by omega) (by omega)).mpr h)
              have hc_99 : 0 < b := by omega
              refine lv_aload_n hx hb dX7_writesTerm_102 rfl (lv_at hl 4 rfl) ?_
              refine lv_bipush (v := nI 42) hx hb dX7_writesTerm_103 (by decide) ?_
              have hF9 := va_free (wc := [(o 0, .inr (2, mFs o th p0 q0 r0 mu (zP ln at_ er ea vs wn op_ bw bb bp uf (wr_ + (wrN (topN M b)).length)))), (o 10, .inl (dA 2, 1200, .inl fO_40))]) hD hS (fun q h => hA q h) [1, 2] rfl
              refine c_v (wr := [(o 5, .inl (dA 1, 2640, .inr (.inl fA)))]) (va_runV (As := [.int (nI 42)]) (rest := []) ⟨hx, hb, hml, hown, hts⟩ (x7_writes Z (va_A [(o 0, .inr (2, mFs o th p0 q0 r0 mu (zP ln at_ er ea vs wn op_ bw bb bp uf (wr_ + (wrN (topN M b)).length)))), (o 10, .inl (dA 2, 1200, .inl fO_40))] H.size) H.size (fun q h => Or.inr h) o th p0 q0 r0 mu ln at_ er ea vs wn op_ bw bb bp uf (wr_ + (wrN (topN M b)).length) fO_40 42 (by omega)) (cwV 1 hts (lw_V q2505 q2507 qs92 q107 q2508) rfl rfl rfl (by decide +kernel) ⟨Nat.le_of_ble_eq_true rfl, Nat.le_of_ble_eq_true rfl⟩) (gP_V (va_recv hK hP (ci := 2) (q0 := 1) rfl rfl) hG hS (fun q _ h => hF9 q h) ⟨rfl, (hP.sub (ws' := [(o 0, .inr (2, mFs o th p0 q0 r0 mu (zP ln at_ er ea vs wn op_ bw bb bp uf (wr_ + (wrN (topN M b)).length)))), (o 10, .inl (dA 2, 1200, .inl fO_40))]) [1, 2] rfl), (hD.sub (ws' := [(o 0, .inr (2, mFs o th p0 q0 r0 mu (zP ln at_ er ea vs wn op_ bw bb bp uf (wr_ + (wrN (topN M b)).length)))), (o 10, .inl (dA 2, 1200, .inl fO_40))]) [1, 2] (by decide) rfl).self⟩) rfl rfl hl.1 rfl (lv_room (Nat.le_of_ble_eq_true rfl)) dX7_writesTerm_105 ⟨by first | decide | omega, by first | decide | omega⟩) hP hD hS hA [1, 2] [0] rfl rfl (by decide) (by decide) (fun u9 H locs hq hX hz hk hP hD hS => ?_)
              have hP : va_P (dC, dI) vwCl [(o 5, .inl (dA 1, 2640, .inr (.inl fA))), (o 0, .inr (2, mFs o th p0 q0 r0 mu (zP ln at_ er ea vs wn op_ bw bb bp uf (wr_ + (wrN (topN M b)).length + 1)))), (o 10, .inl (dA 2, 1200, .inl (upd fO_40 (wr_ + (wrN (topN M b)).length) (sb_b 42))))] H := hP
              have hD : va_D A [(o 5, .inl (dA 1, 2640, .inr (.inl fA))), (o 0, .inr (2, mFs o th p0 q0 r0 mu (zP ln at_ er ea vs wn op_ bw bb bp uf (wr_ + (wrN (topN M b)).length + 1)))), (o 10, .inl (dA 2, 1200, .inl (upd fO_40 (wr_ + (wrN (topN M b)).length) (sb_b 42))))] := hD
              have hO_44 := OutH.add (c := 42) hO_41 hn_42
              generalize upd fO_40 (wr_ + (wrN (topN M b)).length) (sb_b 42) = fO_43 at hP hD hO_44
              have hn_45 : ((L ++ wrN (topN M b)) ++ [42]).length = wr_ + (wrN (topN M b)).length + 1 := by rw [List.length_append, hn_42]; rfl
              exact J_2 fO_43 (wr_ + (wrN (topN M b)).length + 1) H locs ls (by rw [(show L ++ npL M b = ((L ++ wrN (topN M b)) ++ [42]) from by rw [np_b (by omega), if_neg hc_83, if_pos hc_99]; simp only [List.append_assoc, List.append_nil, List.nil_append])]; exact hO_44) (by rw [(show L ++ npL M b = ((L ++ wrN (topN M b)) ++ [42]) from by rw [np_b (by omega), if_neg hc_83, if_pos hc_99]; simp only [List.append_assoc, List.append_nil, List.nil_append])]; exact hn_45) (by omega) (hP.sub [1, 0, 2] rfl) (hD.sub [1, 0, 2] (by decide) rfl) hS (lv_sub hl [1, 2, 3, 4, 5, 6] rfl)
          · have c_83 : ¬ (lN (botN M b)) ≤ 1 := fun h => c_83 ((lg_cmp_le _ _).mpr h)
            have hc_83 : 1 < botN M b := (pk_lLT (a := 1) (by decide) (by omega)).mp (Int64.not_le.mp c_83)
            refine lv_aload_n hx hb dX7_writesTerm_86 rfl (lv_at hl 4 rfl) ?_
            refine lv_bipush (v := nI 47) hx hb dX7_writesTerm_87 (by decide) ?_
            have hF9 := va_free (wc := [(o 0, .inr (2, mFs o th p0 q0 r0 mu (zP ln at_ er ea vs wn op_ bw bb bp uf (wr_ + (wrN (topN M b)).length)))), (o 10, .inl (dA 2, 1200, .inl fO_40))]) hD hS (fun q h => hA q h) [1, 2] rfl
            refine c_v (wr := [(o 5, .inl (dA 1, 2640, .inr (.inl fA)))]) (va_runV (As := [.int (nI 47)]) (rest := []) ⟨hx, hb, hml, hown, hts⟩ (x7_writes Z (va_A [(o 0, .inr (2, mFs o th p0 q0 r0 mu (zP ln at_ er ea vs wn op_ bw bb bp uf (wr_ + (wrN (topN M b)).length)))), (o 10, .inl (dA 2, 1200, .inl fO_40))] H.size) H.size (fun q h => Or.inr h) o th p0 q0 r0 mu ln at_ er ea vs wn op_ bw bb bp uf (wr_ + (wrN (topN M b)).length) fO_40 47 (by omega)) (cwV 1 hts (lw_V q2505 q2507 qs92 q107 q2508) rfl rfl rfl (by decide +kernel) ⟨Nat.le_of_ble_eq_true rfl, Nat.le_of_ble_eq_true rfl⟩) (gP_V (va_recv hK hP (ci := 2) (q0 := 1) rfl rfl) hG hS (fun q _ h => hF9 q h) ⟨rfl, (hP.sub (ws' := [(o 0, .inr (2, mFs o th p0 q0 r0 mu (zP ln at_ er ea vs wn op_ bw bb bp uf (wr_ + (wrN (topN M b)).length)))), (o 10, .inl (dA 2, 1200, .inl fO_40))]) [1, 2] rfl), (hD.sub (ws' := [(o 0, .inr (2, mFs o th p0 q0 r0 mu (zP ln at_ er ea vs wn op_ bw bb bp uf (wr_ + (wrN (topN M b)).length)))), (o 10, .inl (dA 2, 1200, .inl fO_40))]) [1, 2] (by decide) rfl).self⟩) rfl rfl hl.1 rfl (lv_room (Nat.le_of_ble_eq_true rfl)) dX7_writesTerm_89 ⟨by first | decide | omega, by first | decide | omega⟩) hP hD hS hA [1, 2] [0] rfl rfl (by decide) (by decide) (fun u9 H locs hq hX hz hk hP hD hS => ?_)
            have hP : va_P (dC, dI) vwCl [(o 5, .inl (dA 1, 2640, .inr (.inl fA))), (o 0, .inr (2, mFs o th p0 q0 r0 mu (zP ln at_ er ea vs wn op_ bw bb bp uf (wr_ + (wrN (topN M b)).length + 1)))), (o 10, .inl (dA 2, 1200, .inl (upd fO_40 (wr_ + (wrN (topN M b)).length) (sb_b 47))))] H := hP
            have hD : va_D A [(o 5, .inl (dA 1, 2640, .inr (.inl fA))), (o 0, .inr (2, mFs o th p0 q0 r0 mu (zP ln at_ er ea vs wn op_ bw bb bp uf (wr_ + (wrN (topN M b)).length + 1)))), (o 10, .inl (dA 2, 1200, .inl (upd fO_40 (wr_ + (wrN (topN M b)).length) (sb_b 47))))] := hD
            have hO_47 := OutH.add (c := 47) hO_41 hn_42
            generalize upd fO_40 (wr_ + (wrN (topN M b)).length) (sb_b 47) = fO_46 at hP hD hO_47
            have hn_48 : ((L ++ wrN (topN M b)) ++ [47]).length = wr_ + (wrN (topN M b)).length + 1 := by rw [List.length_append, hn_42]; rfl
            refine lv_aload_n hx hb dX7_writesTerm_92 rfl (lv_at hl 4 rfl) ?_
            refine lv_lload hx hb dX7_writesTerm_93 (lv_at hl 1 rfl) ?_
            have hF9 := va_free (wc := [(o 0, .inr (2, mFs o th p0 q0 r0 mu (zP ln at_ er ea vs wn op_ bw bb bp uf (wr_ + (wrN (topN M b)).length + 1)))), (o 10, .inl (dA 2, 1200, .inl fO_46))]) hD hS (fun q h => hA q h) [1, 2] rfl
            refine c_v (wr := [(o 5, .inl (dA 1, 2640, .inr (.inl fA)))]) (va_runV (As := [.long (lN (botN M b))]) (rest := []) ⟨hx, hb, hml, hown, hts⟩ (x7_writesNumber Z (va_A [(o 0, .inr (2, mFs o th p0 q0 r0 mu (zP ln at_ er ea vs wn op_ bw bb bp uf (wr_ + (wrN (topN M b)).length + 1)))), (o 10, .inl (dA 2, 1200, .inl fO_46))] H.size) H.size (fun q h => Or.inr h) o th p0 q0 r0 mu ln at_ er ea vs wn op_ bw bb bp uf (wr_ + (wrN (topN M b)).length + 1) fO_46 ((L ++ wrN (topN M b)) ++ [47]) (botN M b) hb1 hb8 hn_48 (by omega) hO_47) (cwV 1 hts (lw_V q2513 q2515 qs94 q107 q2516) rfl rfl rfl (by decide +kernel) ⟨Nat.le_of_ble_eq_true rfl, Nat.le_of_ble_eq_true rfl⟩) (gP_V (va_recv hK hP (ci := 2) (q0 := 1) rfl rfl) hG hS (fun q _ h => hF9 q h) ⟨rfl, (hP.sub (ws' := [(o 0, .inr (2, mFs o th p0 q0 r0 mu (zP ln at_ er ea vs wn op_ bw bb bp uf (wr_ + (wrN (topN M b)).length + 1)))), (o 10, .inl (dA 2, 1200, .inl fO_46))]) [1, 2] rfl), (hD.sub (ws' := [(o 0, .inr (2, mFs o th p0 q0 r0 mu (zP ln at_ er ea vs wn op_ bw bb bp uf (wr_ + (wrN (topN M b)).length + 1)))), (o 10, .inl (dA 2, 1200, .inl fO_46))]) [1, 2] (by decide) rfl).self⟩) rfl rfl hl.1 rfl (lv_room (Nat.le_of_ble_eq_true rfl)) dX7_writesTerm_95 ⟨by first | decide | omega, by first | decide | omega⟩) hP hD hS hA [1, 2] [0] rfl rfl (by decide) (by decide) (fun u9 H locs hq hX hz hk hP hD hS => ?_)
            obtain ⟨fO_49, rfl⟩ : ∃ z, z = u9 := ⟨_, rfl⟩
            have hO_50 := hq
            have hP : va_P (dC, dI) vwCl [(o 5, .inl (dA 1, 2640, .inr (.inl fA))), (o 0, .inr (2, mFs o th p0 q0 r0 mu (zP ln at_ er ea vs wn op_ bw bb bp uf (wr_ + (wrN (topN M b)).length + 1 + (wrN (botN M b)).length)))), (o 10, .inl (dA 2, 1200, .inl fO_49))] H := hP
            have hD : va_D A [(o 5, .inl (dA 1, 2640, .inr (.inl fA))), (o 0, .inr (2, mFs o th p0 q0 r0 mu (zP ln at_ er ea vs wn op_ bw bb bp uf (wr_ + (wrN (topN M b)).length + 1 + (wrN (botN M b)).length)))), (o 10, .inl (dA 2, 1200, .inl fO_49))] := hD
            have hn_51 : (((L ++ wrN (topN M b)) ++ [47]) ++ wrN (botN M b)).length = wr_ + (wrN (topN M b)).length + 1 + (wrN (botN M b)).length := by rw [List.length_append, hn_48]
            have hd_hn_51 := sb_dg8 (v := (botN M b)) (by omega)
            rw [← wrN_len] at hd_hn_51
            refine lv_iload_n hx hb dX7_writesTerm_98 rfl (lv_at hl 6 rfl) ?_
            refine lv_if_le (tgt := 108) hx hb dX7_writesTerm_99 (by decide) (fun c_99 => ?_) (fun c_99 => ?_)
            · have c_99 : b ≤ 0 := (nI_leI (a := b) (b := 0) (by omega) (by omega)).mp c_99
              have hc_99 : ¬ 0 < b := by omega
              exact J_2 fO_49 (wr_ + (wrN (topN M b)).length + 1 + (wrN (botN M b)).length) H locs ls (by rw [(show L ++ npL M b = (((L ++ wrN (topN M b)) ++ [47]) ++ wrN (botN M b)) from by rw [np_b (by omega), if_pos hc_83, if_neg hc_99]; simp only [List.append_assoc, List.append_nil, List.nil_append])]; exact hO_50) (by rw [(show L ++ npL M b = (((L ++ wrN (topN M b)) ++ [47]) ++ wrN (botN M b)) from by rw [np_b (by omega), if_pos hc_83, if_neg hc_99]; simp only [List.append_assoc, List.append_nil, List.nil_append])]; exact hn_51) (by omega) (hP.sub [1, 0, 2] rfl) (hD.sub [1, 0, 2] (by decide) rfl) hS (lv_sub hl [1, 2, 3, 4, 5, 6] rfl)
            · have c_99 : ¬ b ≤ 0 := fun h => c_99 ((nI_leI (a := b) (b := 0) (by omega) (by omega)).mpr h)
              have hc_99 : 0 < b := by omega
              refine lv_aload_n hx hb dX7_writesTerm_102 rfl (lv_at hl 4 rfl) ?_
              refine lv_bipush (v := nI 42) hx hb dX7_writesTerm_103 (by decide) ?_
              have hF9 := va_free (wc := [(o 0, .inr (2, mFs o th p0 q0 r0 mu (zP ln at_ er ea vs wn op_ bw bb bp uf (wr_ + (wrN (topN M b)).length + 1 + (wrN (botN M b)).length)))), (o 10, .inl (dA 2, 1200, .inl fO_49))]) hD hS (fun q h => hA q h) [1, 2] rfl
              refine c_v (wr := [(o 5, .inl (dA 1, 2640, .inr (.inl fA)))]) (va_runV (As := [.int (nI 42)]) (rest := []) ⟨hx, hb, hml, hown, hts⟩ (x7_writes Z (va_A [(o 0, .inr (2, mFs o th p0 q0 r0 mu (zP ln at_ er ea vs wn op_ bw bb bp uf (wr_ + (wrN (topN M b)).length + 1 + (wrN (botN M b)).length)))), (o 10, .inl (dA 2, 1200, .inl fO_49))] H.size) H.size (fun q h => Or.inr h) o th p0 q0 r0 mu ln at_ er ea vs wn op_ bw bb bp uf (wr_ + (wrN (topN M b)).length + 1 + (wrN (botN M b)).length) fO_49 42 (by omega)) (cwV 1 hts (lw_V q2505 q2507 qs92 q107 q2508) rfl rfl rfl (by decide +kernel) ⟨Nat.le_of_ble_eq_true rfl, Nat.le_of_ble_eq_true rfl⟩) (gP_V (va_recv hK hP (ci := 2) (q0 := 1) rfl rfl) hG hS (fun q _ h => hF9 q h) ⟨rfl, (hP.sub (ws' := [(o 0, .inr (2, mFs o th p0 q0 r0 mu (zP ln at_ er ea vs wn op_ bw bb bp uf (wr_ + (wrN (topN M b)).length + 1 + (wrN (botN M b)).length)))), (o 10, .inl (dA 2, 1200, .inl fO_49))]) [1, 2] rfl), (hD.sub (ws' := [(o 0, .inr (2, mFs o th p0 q0 r0 mu (zP ln at_ er ea vs wn op_ bw bb bp uf (wr_ + (wrN (topN M b)).length + 1 + (wrN (botN M b)).length)))), (o 10, .inl (dA 2, 1200, .inl fO_49))]) [1, 2] (by decide) rfl).self⟩) rfl rfl hl.1 rfl (lv_room (Nat.le_of_ble_eq_true rfl)) dX7_writesTerm_105 ⟨by first | decide | omega, by first | decide | omega⟩) hP hD hS hA [1, 2] [0] rfl rfl (by decide) (by decide) (fun u9 H locs hq hX hz hk hP hD hS => ?_)
              have hP : va_P (dC, dI) vwCl [(o 5, .inl (dA 1, 2640, .inr (.inl fA))), (o 0, .inr (2, mFs o th p0 q0 r0 mu (zP ln at_ er ea vs wn op_ bw bb bp uf (wr_ + (wrN (topN M b)).length + 1 + (wrN (botN M b)).length + 1)))), (o 10, .inl (dA 2, 1200, .inl (upd fO_49 (wr_ + (wrN (topN M b)).length + 1 + (wrN (botN M b)).length) (sb_b 42))))] H := hP
              have hD : va_D A [(o 5, .inl (dA 1, 2640, .inr (.inl fA))), (o 0, .inr (2, mFs o th p0 q0 r0 mu (zP ln at_ er ea vs wn op_ bw bb bp uf (wr_ + (wrN (topN M b)).length + 1 + (wrN (botN M b)).length + 1)))), (o 10, .inl (dA 2, 1200, .inl (upd fO_49 (wr_ + (wrN (topN M b)).length + 1 + (wrN (botN M b)).length) (sb_b 42))))] := hD
              have hO_53 := OutH.add (c := 42) hO_50 hn_51
              generalize upd fO_49 (wr_ + (wrN (topN M b)).length + 1 + (wrN (botN M b)).length) (sb_b 42) = fO_52 at hP hD hO_53
              have hn_54 : ((((L ++ wrN (topN M b)) ++ [47]) ++ wrN (botN M b)) ++ [42]).length = wr_ + (wrN (topN M b)).length + 1 + (wrN (botN M b)).length + 1 := by rw [List.length_append, hn_51]; rfl
              exact J_2 fO_52 (wr_ + (wrN (topN M b)).length + 1 + (wrN (botN M b)).length + 1) H locs ls (by rw [(show L ++ npL M b = ((((L ++ wrN (topN M b)) ++ [47]) ++ wrN (botN M b)) ++ [42]) from by rw [np_b (by omega), if_pos hc_83, if_pos hc_99]; simp only [List.append_assoc, List.append_nil, List.nil_append])]; exact hO_53) (by rw [(show L ++ npL M b = ((((L ++ wrN (topN M b)) ++ [47]) ++ wrN (botN M b)) ++ [42]) from by rw [np_b (by omega), if_pos hc_83, if_pos hc_99]; simp only [List.append_assoc, List.append_nil, List.nil_append])]; exact hn_54) (by omega) (hP.sub [1, 0, 2] rfl) (hD.sub [1, 0, 2] (by decide) rfl) hS (lv_sub hl [1, 2, 3, 4, 5, 6] rfl)
  refine lv_lload hx hb dX7_writesTerm_17 (lv_at hl 0 rfl) ?_
  refine lv_lconst (v := 0) hx hb dX7_writesTerm_19 rfl ?_
  refine W.lcmp hx hb dX7_writesTerm_20 ?_
  refine lv_if_ge (tgt := 30) hx hb dX7_writesTerm_21 (by decide) (fun c_21 => ?_) (fun c_21 => ?_)
  · have c_21 : 0 ≤ ((M (b + 1)) / (lN (Nat.gcd (aN (M 0)) (aN (M (b + 1)))))) := (lg_cmp_ge _ _).mp c_21
    refine lv_lload hx hb dX7_writesTerm_30 (lv_at hl 0 rfl) ?_
    refine e_l (y := lN (topN M b)) ((by show _ = lN (aN (M (b + 1)) / (Nat.gcd (aN (M 0)) (aN (M (b + 1))))); rw [← div_aN (sM.c hb9) hgp hg6]; unfold absL; rw [if_neg (Int64.not_lt.mpr c_21)])) ?_
    exact J_1  s.heap [] ls  (hP.sub [0, 1, 2] rfl) (hD.sub [0, 1, 2] (by decide) rfl) hS (lv_sub hl [0, 1, 2, 3, 4] rfl)
  · have c_21 : ¬ 0 ≤ ((M (b + 1)) / (lN (Nat.gcd (aN (M 0)) (aN (M (b + 1)))))) := fun h => c_21 ((lg_cmp_ge _ _).mpr h)
    refine lv_lload hx hb dX7_writesTerm_24 (lv_at hl 0 rfl) ?_
    refine lv_lneg hx hb dX7_writesTerm_26 ?_
    refine lv_goto (tgt := 32) hx hb dX7_writesTerm_27 (by decide) ?_
    refine e_l (y := lN (topN M b)) ((by show _ = lN (aN (M (b + 1)) / (Nat.gcd (aN (M 0)) (aN (M (b + 1))))); rw [← div_aN (sM.c hb9) hgp hg6]; unfold absL; rw [if_pos (Int64.not_le.mp c_21)])) ?_
    exact J_1  s.heap [] ls  (hP.sub [0, 1, 2] rfl) (hD.sub [0, 1, 2] (by decide) rfl) hS (lv_sub hl [0, 1, 2, 3, 4] rfl)
set_option maxHeartbeats 4000000 in
theorem x7_write {l : Launch} {dC : Nat → ClassId} {dI : Nat → Nat → Nat} {dA : Nat → ClassId} {s0 : State} {b0 : Addr} (Z : Z0 l dC dI dA s0 b0) (A : Nat → Prop) (sz : Nat) (hA : ∀ q : Nat, sz ≤ q → A q) (o : Nat → Nat) (th : Int32) (p0 q0 r0 : Nat) (mu : Int64) (ln at_ : Nat) (er ea : Int32) (vs wn op_ : Nat) (bw bb bp : Bool) (uf : Int32) (wr_ : Nat) (fA : Nat → Int64) (Ms : Nat → MV) (fO : Nat → Int32) (L : List Nat) (a : Int32) (hn : p0 + q0 + r0 ≤ 5) (hR : ∀ k, k < 8 → Hold fA k (Ms k)) (sR : ∀ k, k < 8 → MSm (Ms k)) (hn9 : L.length = wr_) (hO : OutH L fO) : Met l yX7_write (ws_ yX7_write cX7_write 4 (some .int)) ({ frames := 4, cells := 0, slots := 0, locals := 240 } : Room) (gP [.ref (o 0), .int a] s0 A (fun H => H.size = sz ∧ va_P (dC, dI) vwCl [(o 0, .inr (2, mFs o th p0 q0 r0 mu (zP ln at_ er ea vs wn op_ bw bb bp uf wr_))), (o 5, .inl (dA 1, 2640, .inr (.inl fA))), (o 10, .inl (dA 2, 1200, .inl fO))] H ∧ va_D A [(o 0, .inr (2, mFs o th p0 q0 r0 mu (zP ln at_ er ea vs wn op_ bw bb bp uf wr_))), (o 5, .inl (dA 1, 2640, .inr (.inl fA))), (o 10, .inl (dA 2, 1200, .inl fO))])) (va_Qi (S := (Nat → Int32) × List Nat × Int32) (fun r u => (u.2.2, u.2.1) = wrX Ms a L ∧ ((u.2.2 = nI 1 ∧ r = nI 0) ∨ (u.2.2 = nI 0 ∧ r = nI u.2.1.length)) ∧ OutH u.2.1 u.1) (B1 (dC, dI) A (fun u => [(o 0, .inr (2, mFs o u.2.2 p0 q0 r0 mu (zP ln at_ er ea vs wn op_ bw bb bp uf u.2.1.length))), (o 5, .inl (dA 1, 2640, .inr (.inl fA))), (o 10, .inl (dA 2, 1200, .inl u.1))]) (fun _ _ => True)) A) 0 0 A := by
  refine Met.ofW (cc := cX7_write) (maxL := 4) (ret := (some .int)) (by decide) rfl ?_
  intro p e s m args below meth c s₁ B hml hv
  obtain ⟨hav, hG, hsz, hP, hD⟩ := hv
  have hx := B.exec
  have hb := B.bytes
  have hr := B.returns
  have hts := atoms_spec (ws := (ws_ yX7_write cX7_write 4 (some .int))) B.pre
  have hts : ∀ w ∈ lw_all, w.before _ s = true := fun w h => hts w (List.mem_cons_of_mem _ h)
  have hown : s.vm.findClass RX7 = some m.cls := findClass_of_methodNamed B.named
  have hlocks := B.notSynchronized
  have hK := hG.K Z
  subst hsz
  have hS : va_S A s.heap s.heap [] := va_S.rf
  have hl := lv_entry ([.ref (o 0), .int a]) (n := 4) (Nat.le_of_ble_eq_true rfl)
  rw [show entryFrame m args 4 = entryFrame m ([.ref (o 0), .int a] : List Value).toArray 4 from by rw [hav], lg_entry_eq]
  generalize (lg_sl ([.ref (o 0), .int a]) ++ List.replicate (4 - (lg_sl ([.ref (o 0), .int a])).length) Slot.unset).toArray = ls at hl ⊢
  have hl : lv_has ls 4 [(0, .ref (o 0)), (1, .int a)] := hl
  generalize hQe : MQ below _ _ s _ _ _ = Q
  change W p l e ({ frames := 4, cells := 0, slots := 0, locals := 240 } : Room) s m args below meth c s.heap [] 0 0 Q (F0 m 0 ls [])
  refine lv_aload_n hx hb dX7_write_0 rfl (lv_at hl 0 rfl) ?_
  refine lv_iload_n hx hb dX7_write_1 rfl (lv_at hl 1 rfl) ?_
  refine s_i (va_runS (As := [.int a]) (rest := [.ref (o 0)]) ⟨hx, hb, hml, hown, hts⟩ (x7_isRegister Z a) (va_cwS 1 hts (lw_S q2104 q2105 q107 q2106) rfl rfl rfl (by decide +kernel) ⟨Nat.le_of_ble_eq_true rfl, Nat.le_of_ble_eq_true rfl⟩) (gP_S hG hS (fun q _ h => h.elim) trivial) rfl rfl hl.1 rfl (lv_room (Nat.le_of_ble_eq_true rfl)) dX7_write_2 ⟨by first | decide | omega, by first | decide | omega⟩) ?_
  refine lv_if_eq (tgt := 12) hx hb dX7_write_5 (by decide) (fun c_5 => ?_) (fun c_5 => ?_)
  · have h_a := bI_0 c_5
    refine lv_iconst (v := nI 1) hx hb dX7_write_12 (by decide) ?_
    refine va_put (D := (dC, dI)) (ci := 2) (v := .int (nI 1)) (ty := .int) (C := RX7) (T := TX7) (N := 27) hx hb hts in_X7 tyX7 tyX7_ok nmX7 hown hK hP hD hS 0 rfl rfl 0 (by decide) (hts _ q2006) (fun _ h9 => h9) rfl (by decide +kernel) rfl rfl (Nat.le_of_ble_eq_true rfl) dX7_write_13 (fun H locs hP hD hS => ?_)
    have hP : va_P (dC, dI) vwCl [(o 0, .inr (2, mFs o (nI 1) p0 q0 r0 mu (zP ln at_ er ea vs wn op_ bw bb bp uf wr_))), (o 5, .inl (dA 1, 2640, .inr (.inl fA))), (o 10, .inl (dA 2, 1200, .inl fO))] H := hP
    have hD : va_D A [(o 0, .inr (2, mFs o (nI 1) p0 q0 r0 mu (zP ln at_ er ea vs wn op_ bw bb bp uf wr_))), (o 5, .inl (dA 1, 2640, .inr (.inl fA))), (o 10, .inl (dA 2, 1200, .inl fO))] := hD
    refine lv_aload_n hx hb dX7_write_16 rfl (lv_at hl 0 rfl) ?_
    refine va_get (D := (dC, dI)) (ci := 2) (v := .int (nI 1)) (C := RX7) (T := TX7) (N := 27) hx hb hts in_X7 hown hK hP 0 rfl rfl 0 (by decide) (hts _ q2006) (fun _ h9 => h9) rfl dX7_write_17 ?_
    refine lv_if_le (tgt := 25) hx hb dX7_write_20 (by decide) (fun c_20 => ?_) (fun c_20 => ?_)
    · exact absurd c_20 (by decide)
    refine lv_iconst (v := nI 0) hx hb dX7_write_23 (by decide) ?_
    subst hQe
    exact W.iret (v := nI 0) hx hb hr (fun tz ht hW => ⟨⟨_, (fO, L, nI 1), rfl, ⟨(by unfold wrX; rw [show rgB a = false from h_a]; rfl), Or.inl ⟨rfl, rfl⟩, hO⟩, B1_at ht (by rw [hn9]; exact hP.sub [0, 1, 2] rfl) (by rw [hn9]; exact hD.sub [0, 1, 2] (by decide) rfl) trivial⟩, hS.F ht⟩) hS.2.2 dX7_write_24
  · have h_a := bI_1 c_5
    obtain ⟨ja, hj_a, rfl⟩ := inB_nat (by decide) h_a
    refine lv_iconst (v := nI 0) hx hb dX7_write_8 (by decide) ?_
    refine lv_goto (tgt := 13) hx hb dX7_write_9 (by decide) ?_
    refine va_put (D := (dC, dI)) (ci := 2) (v := .int (nI 0)) (ty := .int) (C := RX7) (T := TX7) (N := 27) hx hb hts in_X7 tyX7 tyX7_ok nmX7 hown hK hP hD hS 0 rfl rfl 0 (by decide) (hts _ q2006) (fun _ h9 => h9) rfl (by decide +kernel) rfl rfl (Nat.le_of_ble_eq_true rfl) dX7_write_13 (fun H locs hP hD hS => ?_)
    have hP : va_P (dC, dI) vwCl [(o 0, .inr (2, mFs o (nI 0) p0 q0 r0 mu (zP ln at_ er ea vs wn op_ bw bb bp uf wr_))), (o 5, .inl (dA 1, 2640, .inr (.inl fA))), (o 10, .inl (dA 2, 1200, .inl fO))] H := hP
    have hD : va_D A [(o 0, .inr (2, mFs o (nI 0) p0 q0 r0 mu (zP ln at_ er ea vs wn op_ bw bb bp uf wr_))), (o 5, .inl (dA 1, 2640, .inr (.inl fA))), (o 10, .inl (dA 2, 1200, .inl fO))] := hD
    refine lv_aload_n hx hb dX7_write_16 rfl (lv_at hl 0 rfl) ?_
    refine va_get (D := (dC, dI)) (ci := 2) (v := .int (nI 0)) (C := RX7) (T := TX7) (N := 27) hx hb hts in_X7 hown hK hP 0 rfl rfl 0 (by decide) (hts _ q2006) (fun _ h9 => h9) rfl dX7_write_17 ?_
    refine lv_if_le (tgt := 25) hx hb dX7_write_20 (by decide) (fun c_20 => ?_) (fun c_20 => ?_)
    rotate_left
    · exact absurd (by decide) c_20
    refine lv_aload_n hx hb dX7_write_25 rfl (lv_at hl 0 rfl) ?_
    refine lv_iconst (v := nI 0) hx hb dX7_write_26 (by decide) ?_
    refine va_put (D := (dC, dI)) (ci := 2) (v := .int (nI 0)) (ty := .int) (C := RX7) (T := TX7) (N := 27) hx hb hts in_X7 tyX7 tyX7_ok nmX7 hown hK hP hD hS 0 rfl rfl 26 (by decide) (hts _ q2032) (fun _ h9 => h9) rfl (by decide +kernel) rfl rfl (Nat.le_of_ble_eq_true rfl) dX7_write_27 (fun H locs hP hD hS => ?_)
    have hP : va_P (dC, dI) vwCl [(o 0, .inr (2, mFs o (nI 0) p0 q0 r0 mu (zP ln at_ er ea vs wn op_ bw bb bp uf 0))), (o 5, .inl (dA 1, 2640, .inr (.inl fA))), (o 10, .inl (dA 2, 1200, .inl fO))] H := hP
    have hD : va_D A [(o 0, .inr (2, mFs o (nI 0) p0 q0 r0 mu (zP ln at_ er ea vs wn op_ bw bb bp uf 0))), (o 5, .inl (dA 1, 2640, .inr (.inl fA))), (o 10, .inl (dA 2, 1200, .inl fO))] := hD
    refine lv_iconst (v := nI 0) hx hb dX7_write_30 (by decide) ?_
    refine lv_istore_n (lv' := [(2, .int (nI 0)), (0, .ref (o 0)), (1, .int (nI ja))]) hx hb dX7_write_31 rfl hl (by decide) rfl (fun ls hl => ?_)
    have sM := sR ja (by omega)
    have hM := hR ja (by omega)
    have hP : va_P (dC, dI) vwCl [(o 0, .inr (2, mFs o (nI 0) p0 q0 r0 mu (zP ln at_ er ea vs wn op_ bw bb bp uf ((wrK (Ms ja) 0).length)))), (o 5, .inl (dA 1, 2640, .inr (.inl fA))), (o 10, .inl (dA 2, 1200, .inl fO))] H := hP
    have hD : va_D A [(o 0, .inr (2, mFs o (nI 0) p0 q0 r0 mu (zP ln at_ er ea vs wn op_ bw bb bp uf ((wrK (Ms ja) 0).length)))), (o 5, .inl (dA 1, 2640, .inr (.inl fA))), (o 10, .inl (dA 2, 1200, .inl fO))] := hD
    have loop_1 : ∀ (n9_1 : Nat) (k : Nat) (fB : Nat → Int32) (H : Heap) (locs : List Loc) (ls : Array Slot), 32 - k < n9_1 → (k ≤ 32) → (OutH (wrK (Ms ja) k) fB) → va_P (dC, dI) vwCl [(o 0, .inr (2, mFs o (nI 0) p0 q0 r0 mu (zP ln at_ er ea vs wn op_ bw bb bp uf ((wrK (Ms ja) k).length)))), (o 5, .inl (dA 1, 2640, .inr (.inl fA))), (o 10, .inl (dA 2, 1200, .inl fB))] H → va_D A [(o 0, .inr (2, mFs o (nI 0) p0 q0 r0 mu (zP ln at_ er ea vs wn op_ bw bb bp uf ((wrK (Ms ja) k).length)))), (o 5, .inl (dA 1, 2640, .inr (.inl fA))), (o 10, .inl (dA 2, 1200, .inl fB))] → va_S A s.heap H locs → lv_has ls 4 [(0, .ref (o 0)), (1, .int (nI ja)), (2, .int (nI k))] → W p l e ({ frames := 4, cells := 0, slots := 0, locals := 240 } : Room) s m args below meth c H locs 0 0 Q (F0 m 32 ls []) := by
      intro n9_1
      induction n9_1 with
      | zero => intro k fB H locs ls hm_1; exact absurd hm_1 (Nat.not_lt_zero _)
      | succ n9_1 ih_1 =>
        intro k fB H locs ls hm_1 hk9 hO9 hP hD hS hl
        have hl9 := wrK_len sM k hk9
        refine lv_iload_n hx hb dX7_write_32 rfl (lv_at hl 2 rfl) ?_
        refine lv_bipush (v := nI 32) hx hb dX7_write_33 (by decide) ?_
        refine lv_icmp_ge (tgt := 128) hx hb dX7_write_35 (by decide) (fun c_35 => ?_) (fun c_35 => ?_)
        · have c_35 : 32 ≤ k := (nI_leI (a := 32) (b := k) (by omega) (by omega)).mp c_35
          obtain rfl : k = 32 := by omega
          refine lv_aload_n hx hb dX7_write_128 rfl (lv_at hl 0 rfl) ?_
          refine va_get (D := (dC, dI)) (ci := 2) (v := .int (nI ((wrK (Ms ja) 32).length))) (C := RX7) (T := TX7) (N := 27) hx hb hts in_X7 hown hK hP 0 rfl rfl 26 (by decide) (hts _ q2032) (fun _ h9 => h9) rfl dX7_write_129 ?_
          refine lv_if_ne (tgt := 141) hx hb dX7_write_132 (by decide) (fun c_132 => ?_) (fun c_132 => ?_)
          · have c_132 : ¬ ((wrK (Ms ja) 32).length) = 0 := fun h => c_132 ((nI_eq (a := ((wrK (Ms ja) 32).length)) (b := 0) (by omega) (by omega)).mpr h)
            refine lv_aload_n hx hb dX7_write_141 rfl (lv_at hl 0 rfl) ?_
            refine va_get (D := (dC, dI)) (ci := 2) (v := .int (nI ((wrK (Ms ja) 32).length))) (C := RX7) (T := TX7) (N := 27) hx hb hts in_X7 hown hK hP 0 rfl rfl 26 (by decide) (hts _ q2032) (fun _ h9 => h9) rfl dX7_write_142 ?_
            subst hQe
            exact W.iret (v := nI ((wrK (Ms ja) 32).length)) hx hb hr (fun tz ht hW => ⟨⟨_, (fB, wrA (Ms ja), nI 0), rfl, ⟨(by rw [(show wrX Ms (nI ja) L = (nI 0, wrA (Ms ja)) from by unfold wrX; rw [show rgB (nI ja) = true from h_a, rg_n (show ja < 8 by omega)]; rfl)]), Or.inr ⟨rfl, (by rw [(show (wrA (Ms ja)).length = (wrK (Ms ja) 32).length from by rw [(show wrA (Ms ja) = wrK (Ms ja) 32 from by unfold wrA; rw [if_neg c_132])])])⟩, (by show OutH (wrA (Ms ja)) _; rw [(show wrA (Ms ja) = wrK (Ms ja) 32 from by unfold wrA; rw [if_neg c_132])]; exact hO9)⟩, B1_at ht (by rw [(show (wrA (Ms ja)).length = (wrK (Ms ja) 32).length from by rw [(show wrA (Ms ja) = wrK (Ms ja) 32 from by unfold wrA; rw [if_neg c_132])])]; exact hP.sub [0, 1, 2] rfl) (by rw [(show (wrA (Ms ja)).length = (wrK (Ms ja) 32).length from by rw [(show wrA (Ms ja) = wrK (Ms ja) 32 from by unfold wrA; rw [if_neg c_132])])]; exact hD.sub [0, 1, 2] (by decide) rfl) trivial⟩, hS.F ht⟩) hS.2.2 dX7_write_145
          · have c_132 : ((wrK (Ms ja) 32).length) = 0 := (nI_eq (a := ((wrK (Ms ja) 32).length)) (b := 0) (by omega) (by omega)).mp c_132
            have hnil : wrK (Ms ja) 32 = [] := List.length_eq_zero_iff.mp c_132
            refine lv_aload_n hx hb dX7_write_135 rfl (lv_at hl 0 rfl) ?_
            refine lv_bipush (v := nI 48) hx hb dX7_write_136 (by decide) ?_
            have hF9 := va_free (wc := [(o 0, .inr (2, mFs o (nI 0) p0 q0 r0 mu (zP ln at_ er ea vs wn op_ bw bb bp uf ((wrK (Ms ja) 32).length)))), (o 10, .inl (dA 2, 1200, .inl fB))]) hD hS (fun q h => hA q h) [0, 2] rfl
            refine c_v (wr := [(o 5, .inl (dA 1, 2640, .inr (.inl fA)))]) (va_runV (As := [.int (nI 48)]) (rest := []) ⟨hx, hb, hml, hown, hts⟩ (x7_writes Z (va_A [(o 0, .inr (2, mFs o (nI 0) p0 q0 r0 mu (zP ln at_ er ea vs wn op_ bw bb bp uf ((wrK (Ms ja) 32).length)))), (o 10, .inl (dA 2, 1200, .inl fB))] H.size) H.size (fun q h => Or.inr h) o (nI 0) p0 q0 r0 mu ln at_ er ea vs wn op_ bw bb bp uf ((wrK (Ms ja) 32).length) fB 48 (by omega)) (cwV 1 hts (lw_V q2505 q2507 qs92 q107 q2508) rfl rfl rfl (by decide +kernel) ⟨Nat.le_of_ble_eq_true rfl, Nat.le_of_ble_eq_true rfl⟩) (gP_V (va_recv hK hP (ci := 2) (q0 := 0) rfl rfl) hG hS (fun q _ h => hF9 q h) ⟨rfl, (hP.sub (ws' := [(o 0, .inr (2, mFs o (nI 0) p0 q0 r0 mu (zP ln at_ er ea vs wn op_ bw bb bp uf ((wrK (Ms ja) 32).length)))), (o 10, .inl (dA 2, 1200, .inl fB))]) [0, 2] rfl), (hD.sub (ws' := [(o 0, .inr (2, mFs o (nI 0) p0 q0 r0 mu (zP ln at_ er ea vs wn op_ bw bb bp uf ((wrK (Ms ja) 32).length)))), (o 10, .inl (dA 2, 1200, .inl fB))]) [0, 2] (by decide) rfl).self⟩) rfl rfl hl.1 rfl (lv_room (Nat.le_of_ble_eq_true rfl)) dX7_write_138 ⟨by first | decide | omega, by first | decide | omega⟩) hP hD hS hA [0, 2] [1] rfl rfl (by decide) (by decide) (fun u9 H locs hq hX hz hk hP hD hS => ?_)
            have hP : va_P (dC, dI) vwCl [(o 5, .inl (dA 1, 2640, .inr (.inl fA))), (o 0, .inr (2, mFs o (nI 0) p0 q0 r0 mu (zP ln at_ er ea vs wn op_ bw bb bp uf ((wrK (Ms ja) 32).length + 1)))), (o 10, .inl (dA 2, 1200, .inl (upd fB ((wrK (Ms ja) 32).length) (sb_b 48))))] H := hP
            have hD : va_D A [(o 5, .inl (dA 1, 2640, .inr (.inl fA))), (o 0, .inr (2, mFs o (nI 0) p0 q0 r0 mu (zP ln at_ er ea vs wn op_ bw bb bp uf ((wrK (Ms ja) 32).length + 1)))), (o 10, .inl (dA 2, 1200, .inl (upd fB ((wrK (Ms ja) 32).length) (sb_b 48))))] := hD
            have hO_3 := OutH.add (c := 48) hO9 rfl
            generalize upd fB ((wrK (Ms ja) 32).length) (sb_b 48) = fO_2 at hP hD hO_3
            have hn_4 : ((wrK (Ms ja) 32) ++ [48]).length = (wrK (Ms ja) 32).length + 1 := by rw [List.length_append]; rfl
            refine lv_aload_n hx hb dX7_write_141 rfl (lv_at hl 0 rfl) ?_
            refine va_get (D := (dC, dI)) (ci := 2) (v := .int (nI ((wrK (Ms ja) 32).length + 1))) (C := RX7) (T := TX7) (N := 27) hx hb hts in_X7 hown hK hP 1 rfl rfl 26 (by decide) (hts _ q2032) (fun _ h9 => h9) rfl dX7_write_142 ?_
            subst hQe
            exact W.iret (v := nI ((wrK (Ms ja) 32).length + 1)) hx hb hr (fun tz ht hW => ⟨⟨_, (fO_2, wrA (Ms ja), nI 0), rfl, ⟨(by rw [(show wrX Ms (nI ja) L = (nI 0, wrA (Ms ja)) from by unfold wrX; rw [show rgB (nI ja) = true from h_a, rg_n (show ja < 8 by omega)]; rfl)]), Or.inr ⟨rfl, (by rw [(show (wrA (Ms ja)).length = (wrK (Ms ja) 32).length + 1 from by rw [(show wrA (Ms ja) = wrK (Ms ja) 32 ++ [48] from by unfold wrA; rw [if_pos c_132, hnil]; rfl), List.length_append]; rfl)])⟩, (by show OutH (wrA (Ms ja)) _; rw [(show wrA (Ms ja) = wrK (Ms ja) 32 ++ [48] from by unfold wrA; rw [if_pos c_132, hnil]; rfl)]; exact hO_3)⟩, B1_at ht (by rw [(show (wrA (Ms ja)).length = (wrK (Ms ja) 32).length + 1 from by rw [(show wrA (Ms ja) = wrK (Ms ja) 32 ++ [48] from by unfold wrA; rw [if_pos c_132, hnil]; rfl), List.length_append]; rfl)]; exact hP.sub [1, 0, 2] rfl) (by rw [(show (wrA (Ms ja)).length = (wrK (Ms ja) 32).length + 1 from by rw [(show wrA (Ms ja) = wrK (Ms ja) 32 ++ [48] from by unfold wrA; rw [if_pos c_132, hnil]; rfl), List.length_append]; rfl)]; exact hD.sub [1, 0, 2] (by decide) rfl) trivial⟩, hS.F ht⟩) hS.2.2 dX7_write_145
        · have c_35 : ¬ 32 ≤ k := fun h => c_35 ((nI_leI (a := 32) (b := k) (by omega) (by omega)).mpr h)
          refine lv_aload_n hx hb dX7_write_38 rfl (lv_at hl 0 rfl) ?_
          refine lv_iload_n hx hb dX7_write_39 rfl (lv_at hl 1 rfl) ?_
          refine lv_iload_n hx hb dX7_write_40 rfl (lv_at hl 2 rfl) ?_
          refine s_l (va_runV (As := [.int (nI ja), .int (nI k)]) (rest := []) ⟨hx, hb, hml, hown, hts⟩ (x7_of Z o (nI 0) p0 q0 r0 mu (zP ln at_ er ea vs wn op_ bw bb bp uf ((wrK (Ms ja) k).length)) fA ja k (by omega)) (cwV 2 hts (lw_V q2119 q2121 qs38 q107 q2122) rfl rfl rfl (by decide +kernel) ⟨Nat.le_of_ble_eq_true rfl, Nat.le_of_ble_eq_true rfl⟩) (gP_V (va_recv hK hP (ci := 2) (q0 := 0) rfl rfl) hG hS (fun q _ h => h.elim) (hP.sub (ws' := [(o 0, .inr (2, mFs o (nI 0) p0 q0 r0 mu (zP ln at_ er ea vs wn op_ bw bb bp uf ((wrK (Ms ja) k).length)))), (o 5, .inl (dA 1, 2640, .inr (.inl fA)))]) [0, 1] rfl)) rfl rfl hl.1 rfl (lv_room (Nat.le_of_ble_eq_true rfl)) dX7_write_41 ⟨by first | decide | omega, by first | decide | omega⟩) ?_
          refine e_l (y := (Ms ja) (k + 1)) (hold_at hM (i := k + 1) (by omega) (by omega)) ?_
          refine lv_lconst (v := 0) hx hb dX7_write_44 rfl ?_
          refine W.lcmp hx hb dX7_write_45 ?_
          refine lv_if_ne (tgt := 52) hx hb dX7_write_46 (by decide) (fun c_46 => ?_) (fun c_46 => ?_)
          · have c_46 : ¬ ((Ms ja) (k + 1)) = 0 := fun h => c_46 ((lg_cmp_eq _ _).mpr h)
            have hne := c_46
            refine lv_aload_n hx hb dX7_write_52 rfl (lv_at hl 0 rfl) ?_
            refine lv_iload_n hx hb dX7_write_53 rfl (lv_at hl 1 rfl) ?_
            refine lv_iload_n hx hb dX7_write_54 rfl (lv_at hl 2 rfl) ?_
            refine s_l (va_runV (As := [.int (nI ja), .int (nI k)]) (rest := []) ⟨hx, hb, hml, hown, hts⟩ (x7_of Z o (nI 0) p0 q0 r0 mu (zP ln at_ er ea vs wn op_ bw bb bp uf ((wrK (Ms ja) k).length)) fA ja k (by omega)) (cwV 2 hts (lw_V q2119 q2121 qs38 q107 q2122) rfl rfl rfl (by decide +kernel) ⟨Nat.le_of_ble_eq_true rfl, Nat.le_of_ble_eq_true rfl⟩) (gP_V (va_recv hK hP (ci := 2) (q0 := 0) rfl rfl) hG hS (fun q _ h => h.elim) (hP.sub (ws' := [(o 0, .inr (2, mFs o (nI 0) p0 q0 r0 mu (zP ln at_ er ea vs wn op_ bw bb bp uf ((wrK (Ms ja) k).length)))), (o 5, .inl (dA 1, 2640, .inr (.inl fA)))]) [0, 1] rfl)) rfl rfl hl.1 rfl (lv_room (Nat.le_of_ble_eq_true rfl)) dX7_write_55 ⟨by first | decide | omega, by first | decide | omega⟩) ?_
            refine e_l (y := (Ms ja) (k + 1)) (hold_at hM (i := k + 1) (by omega) (by omega)) ?_
            refine lv_lconst (v := 0) hx hb dX7_write_58 rfl ?_
            refine W.lcmp hx hb dX7_write_59 ?_
            refine lv_if_ge (tgt := 67) hx hb dX7_write_60 (by decide) (fun c_60 => ?_) (fun c_60 => ?_)
            · have c_60 : 0 ≤ ((Ms ja) (k + 1)) := (lg_cmp_ge _ _).mp c_60
              have hneg : decide (Ms ja (k + 1) < 0) = false := decide_eq_false (Int64.not_lt.mpr c_60)
              refine lv_iconst (v := nI 0) hx hb dX7_write_67 (by decide) ?_
              refine lv_istore_n (lv' := [(3, .int (nI 0)), (0, .ref (o 0)), (1, .int (nI ja)), (2, .int (nI k))]) hx hb dX7_write_68 rfl hl (by decide) rfl (fun ls hl => ?_)
              refine lv_aload_n hx hb dX7_write_69 rfl (lv_at hl 1 rfl) ?_
              refine va_get (D := (dC, dI)) (ci := 2) (v := .int (nI ((wrK (Ms ja) k).length))) (C := RX7) (T := TX7) (N := 27) hx hb hts in_X7 hown hK hP 0 rfl rfl 26 (by decide) (hts _ q2032) (fun _ h9 => h9) rfl dX7_write_70 ?_
              refine lv_if_le (tgt := 106) hx hb dX7_write_73 (by decide) (fun c_73 => ?_) (fun c_73 => ?_)
              · have c_73 : ((wrK (Ms ja) k).length) ≤ 0 := (nI_leI (a := ((wrK (Ms ja) k).length)) (b := 0) (by omega) (by omega)).mp c_73
                have hl0 : ¬ 0 < (wrK (Ms ja) k).length := by omega
                refine lv_iload_n hx hb dX7_write_106 rfl (lv_at hl 0 rfl) ?_
                refine lv_if_eq (tgt := 116) hx hb dX7_write_107 (by decide) (fun c_107 => ?_) (fun c_107 => ?_)
                rotate_left
                · exact absurd (by decide) c_107
                refine lv_aload_n hx hb dX7_write_116 rfl (lv_at hl 1 rfl) ?_
                refine lv_iload_n hx hb dX7_write_117 rfl (lv_at hl 2 rfl) ?_
                refine lv_iload_n hx hb dX7_write_118 rfl (lv_at hl 3 rfl) ?_
                have hF9 := va_free (wc := [(o 0, .inr (2, mFs o (nI 0) p0 q0 r0 mu (zP ln at_ er ea vs wn op_ bw bb bp uf ((wrK (Ms ja) k).length)))), (o 5, .inl (dA 1, 2640, .inr (.inl fA))), (o 10, .inl (dA 2, 1200, .inl fB))]) hD hS (fun q h => hA q h) [0, 1, 2] rfl
                refine c_v (wr := []) (va_runV (As := [.int (nI ja), .int (nI k)]) (rest := []) ⟨hx, hb, hml, hown, hts⟩ (x7_writesTerm Z (va_A [(o 0, .inr (2, mFs o (nI 0) p0 q0 r0 mu (zP ln at_ er ea vs wn op_ bw bb bp uf ((wrK (Ms ja) k).length)))), (o 5, .inl (dA 1, 2640, .inr (.inl fA))), (o 10, .inl (dA 2, 1200, .inl fB))] H.size) H.size (fun q h => Or.inr h) o (nI 0) p0 q0 r0 mu ln at_ er ea vs wn op_ bw bb bp uf ((wrK (Ms ja) k).length) fA fB (wrK (Ms ja) k) ja k (Ms ja) (by omega) (by omega) hM sM hne rfl (by omega) hO9) (cwV 2 hts (lw_V q2509 q2511 qs93 q107 q2512) rfl rfl rfl (by decide +kernel) ⟨Nat.le_of_ble_eq_true rfl, Nat.le_of_ble_eq_true rfl⟩) (gP_V (va_recv hK hP (ci := 2) (q0 := 0) rfl rfl) hG hS (fun q _ h => hF9 q h) ⟨rfl, (hP.sub (ws' := [(o 0, .inr (2, mFs o (nI 0) p0 q0 r0 mu (zP ln at_ er ea vs wn op_ bw bb bp uf ((wrK (Ms ja) k).length)))), (o 5, .inl (dA 1, 2640, .inr (.inl fA))), (o 10, .inl (dA 2, 1200, .inl fB))]) [0, 1, 2] rfl), (hD.sub (ws' := [(o 0, .inr (2, mFs o (nI 0) p0 q0 r0 mu (zP ln at_ er ea vs wn op_ bw bb bp uf ((wrK (Ms ja) k).length)))), (o 5, .inl (dA 1, 2640, .inr (.inl fA))), (o 10, .inl (dA 2, 1200, .inl fB))]) [0, 1, 2] (by decide) rfl).self⟩) rfl rfl hl.1 rfl (lv_room (Nat.le_of_ble_eq_true rfl)) dX7_write_119 ⟨by first | decide | omega, by first | decide | omega⟩) hP hD hS hA [0, 1, 2] [] rfl rfl (by decide) (by decide) (fun u9 H locs hq hX hz hk hP hD hS => ?_)
                obtain ⟨fO_5, rfl⟩ : ∃ z, z = u9 := ⟨_, rfl⟩
                have hO_6 := hq
                have hP : va_P (dC, dI) vwCl [(o 0, .inr (2, mFs o (nI 0) p0 q0 r0 mu (zP ln at_ er ea vs wn op_ bw bb bp uf ((wrK (Ms ja) k).length + (wrT (Ms ja) k).length)))), (o 5, .inl (dA 1, 2640, .inr (.inl fA))), (o 10, .inl (dA 2, 1200, .inl fO_5))] H := hP
                have hD : va_D A [(o 0, .inr (2, mFs o (nI 0) p0 q0 r0 mu (zP ln at_ er ea vs wn op_ bw bb bp uf ((wrK (Ms ja) k).length + (wrT (Ms ja) k).length)))), (o 5, .inl (dA 1, 2640, .inr (.inl fA))), (o 10, .inl (dA 2, 1200, .inl fO_5))] := hD
                have hn_7 : ((wrK (Ms ja) k) ++ wrT (Ms ja) k).length = (wrK (Ms ja) k).length + (wrT (Ms ja) k).length := by rw [List.length_append]
                have e9 : wrK (Ms ja) (k + 1) = ((wrK (Ms ja) k) ++ wrT (Ms ja) k) := (show (if Ms ja (k + 1) = 0 then wrK (Ms ja) k else wrP (decide (Ms ja (k + 1) < 0)) (wrK (Ms ja) k) ++ wrT (Ms ja) k) = ((wrK (Ms ja) k) ++ wrT (Ms ja) k) from by rw [if_neg hne]; unfold wrP; rw [if_neg hl0, hneg]; rfl)
                have hO_8 : OutH (wrK (Ms ja) (k + 1)) fO_5 := by rw [e9]; exact hO_6
                have e8 : (wrK (Ms ja) k).length + (wrT (Ms ja) k).length = (wrK (Ms ja) (k + 1)).length := by rw [e9]; exact hn_7.symm
                rw [e8] at hP hD; clear e8
                have hP : va_P (dC, dI) vwCl [(o 0, .inr (2, mFs o (nI 0) p0 q0 r0 mu (zP ln at_ er ea vs wn op_ bw bb bp uf ((wrK (Ms ja) (k + 1)).length)))), (o 5, .inl (dA 1, 2640, .inr (.inl fA))), (o 10, .inl (dA 2, 1200, .inl fO_5))] H := hP
                have hD : va_D A [(o 0, .inr (2, mFs o (nI 0) p0 q0 r0 mu (zP ln at_ er ea vs wn op_ bw bb bp uf ((wrK (Ms ja) (k + 1)).length)))), (o 5, .inl (dA 1, 2640, .inr (.inl fA))), (o 10, .inl (dA 2, 1200, .inl fO_5))] := hD
                refine lv_iinc (v := nI (k + 1)) (lv' := [(2, .int (nI (k + 1))), (3, .int (nI 0)), (0, .ref (o 0)), (1, .int (nI ja))]) hx hb dX7_write_122 hl (k := 3) rfl (by exact nI_add _ 1) (by decide) rfl (fun ls hl => ?_)
                refine lv_goto (tgt := 32) hx hb dX7_write_125 (by decide) ?_
                exact ih_1 (k + 1) fO_5 H locs ls (by omega) (by omega) hO_8 (hP.sub [0, 1, 2] rfl) (hD.sub [0, 1, 2] (by decide) rfl) hS (lv_sub hl [2, 3, 0] rfl)
              · have c_73 : ¬ ((wrK (Ms ja) k).length) ≤ 0 := fun h => c_73 ((nI_leI (a := ((wrK (Ms ja) k).length)) (b := 0) (by omega) (by omega)).mpr h)
                have hl0 : 0 < (wrK (Ms ja) k).length := by omega
                refine lv_aload_n hx hb dX7_write_76 rfl (lv_at hl 1 rfl) ?_
                refine lv_bipush (v := nI 32) hx hb dX7_write_77 (by decide) ?_
                have hF9 := va_free (wc := [(o 0, .inr (2, mFs o (nI 0) p0 q0 r0 mu (zP ln at_ er ea vs wn op_ bw bb bp uf ((wrK (Ms ja) k).length)))), (o 10, .inl (dA 2, 1200, .inl fB))]) hD hS (fun q h => hA q h) [0, 2] rfl
                refine c_v (wr := [(o 5, .inl (dA 1, 2640, .inr (.inl fA)))]) (va_runV (As := [.int (nI 32)]) (rest := []) ⟨hx, hb, hml, hown, hts⟩ (x7_writes Z (va_A [(o 0, .inr (2, mFs o (nI 0) p0 q0 r0 mu (zP ln at_ er ea vs wn op_ bw bb bp uf ((wrK (Ms ja) k).length)))), (o 10, .inl (dA 2, 1200, .inl fB))] H.size) H.size (fun q h => Or.inr h) o (nI 0) p0 q0 r0 mu ln at_ er ea vs wn op_ bw bb bp uf ((wrK (Ms ja) k).length) fB 32 (by omega)) (cwV 1 hts (lw_V q2505 q2507 qs92 q107 q2508) rfl rfl rfl (by decide +kernel) ⟨Nat.le_of_ble_eq_true rfl, Nat.le_of_ble_eq_true rfl⟩) (gP_V (va_recv hK hP (ci := 2) (q0 := 0) rfl rfl) hG hS (fun q _ h => hF9 q h) ⟨rfl, (hP.sub (ws' := [(o 0, .inr (2, mFs o (nI 0) p0 q0 r0 mu (zP ln at_ er ea vs wn op_ bw bb bp uf ((wrK (Ms ja) k).length)))), (o 10, .inl (dA 2, 1200, .inl fB))]) [0, 2] rfl), (hD.sub (ws' := [(o 0, .inr (2, mFs o (nI 0) p0 q0 r0 mu (zP ln at_ er ea vs wn op_ bw bb bp uf ((wrK (Ms ja) k).length)))), (o 10, .inl (dA 2, 1200, .inl fB))]) [0, 2] (by decide) rfl).self⟩) rfl rfl hl.1 rfl (lv_room (Nat.le_of_ble_eq_true rfl)) dX7_write_79 ⟨by first | decide | omega, by first | decide | omega⟩) hP hD hS hA [0, 2] [1] rfl rfl (by decide) (by decide) (fun u9 H locs hq hX hz hk hP hD hS => ?_)
                have hP : va_P (dC, dI) vwCl [(o 5, .inl (dA 1, 2640, .inr (.inl fA))), (o 0, .inr (2, mFs o (nI 0) p0 q0 r0 mu (zP ln at_ er ea vs wn op_ bw bb bp uf ((wrK (Ms ja) k).length + 1)))), (o 10, .inl (dA 2, 1200, .inl (upd fB ((wrK (Ms ja) k).length) (sb_b 32))))] H := hP
                have hD : va_D A [(o 5, .inl (dA 1, 2640, .inr (.inl fA))), (o 0, .inr (2, mFs o (nI 0) p0 q0 r0 mu (zP ln at_ er ea vs wn op_ bw bb bp uf ((wrK (Ms ja) k).length + 1)))), (o 10, .inl (dA 2, 1200, .inl (upd fB ((wrK (Ms ja) k).length) (sb_b 32))))] := hD
                have hO_10 := OutH.add (c := 32) hO9 rfl
                generalize upd fB ((wrK (Ms ja) k).length) (sb_b 32) = fO_9 at hP hD hO_10
                have hn_11 : ((wrK (Ms ja) k) ++ [32]).length = (wrK (Ms ja) k).length + 1 := by rw [List.length_append]; rfl
                refine lv_aload_n hx hb dX7_write_82 rfl (lv_at hl 1 rfl) ?_
                refine lv_iload_n hx hb dX7_write_83 rfl (lv_at hl 0 rfl) ?_
                refine lv_if_eq (tgt := 92) hx hb dX7_write_84 (by decide) (fun c_84 => ?_) (fun c_84 => ?_)
                rotate_left
                · exact absurd (by decide) c_84
                refine lv_bipush (v := nI 43) hx hb dX7_write_92 (by decide) ?_
                have hF9 := va_free (wc := [(o 0, .inr (2, mFs o (nI 0) p0 q0 r0 mu (zP ln at_ er ea vs wn op_ bw bb bp uf ((wrK (Ms ja) k).length + 1)))), (o 10, .inl (dA 2, 1200, .inl fO_9))]) hD hS (fun q h => hA q h) [1, 2] rfl
                refine c_v (wr := [(o 5, .inl (dA 1, 2640, .inr (.inl fA)))]) (va_runV (As := [.int (nI 43)]) (rest := []) ⟨hx, hb, hml, hown, hts⟩ (x7_writes Z (va_A [(o 0, .inr (2, mFs o (nI 0) p0 q0 r0 mu (zP ln at_ er ea vs wn op_ bw bb bp uf ((wrK (Ms ja) k).length + 1)))), (o 10, .inl (dA 2, 1200, .inl fO_9))] H.size) H.size (fun q h => Or.inr h) o (nI 0) p0 q0 r0 mu ln at_ er ea vs wn op_ bw bb bp uf ((wrK (Ms ja) k).length + 1) fO_9 43 (by omega)) (cwV 1 hts (lw_V q2505 q2507 qs92 q107 q2508) rfl rfl rfl (by decide +kernel) ⟨Nat.le_of_ble_eq_true rfl, Nat.le_of_ble_eq_true rfl⟩) (gP_V (va_recv hK hP (ci := 2) (q0 := 1) rfl rfl) hG hS (fun q _ h => hF9 q h) ⟨rfl, (hP.sub (ws' := [(o 0, .inr (2, mFs o (nI 0) p0 q0 r0 mu (zP ln at_ er ea vs wn op_ bw bb bp uf ((wrK (Ms ja) k).length + 1)))), (o 10, .inl (dA 2, 1200, .inl fO_9))]) [1, 2] rfl), (hD.sub (ws' := [(o 0, .inr (2, mFs o (nI 0) p0 q0 r0 mu (zP ln at_ er ea vs wn op_ bw bb bp uf ((wrK (Ms ja) k).length + 1)))), (o 10, .inl (dA 2, 1200, .inl fO_9))]) [1, 2] (by decide) rfl).self⟩) rfl rfl hl.1 rfl (lv_room (Nat.le_of_ble_eq_true rfl)) dX7_write_94 ⟨by first | decide | omega, by first | decide | omega⟩) hP hD hS hA [1, 2] [0] rfl rfl (by decide) (by decide) (fun u9 H locs hq hX hz hk hP hD hS => ?_)
                have hP : va_P (dC, dI) vwCl [(o 5, .inl (dA 1, 2640, .inr (.inl fA))), (o 0, .inr (2, mFs o (nI 0) p0 q0 r0 mu (zP ln at_ er ea vs wn op_ bw bb bp uf ((wrK (Ms ja) k).length + 1 + 1)))), (o 10, .inl (dA 2, 1200, .inl (upd fO_9 ((wrK (Ms ja) k).length + 1) (sb_b 43))))] H := hP
                have hD : va_D A [(o 5, .inl (dA 1, 2640, .inr (.inl fA))), (o 0, .inr (2, mFs o (nI 0) p0 q0 r0 mu (zP ln at_ er ea vs wn op_ bw bb bp uf ((wrK (Ms ja) k).length + 1 + 1)))), (o 10, .inl (dA 2, 1200, .inl (upd fO_9 ((wrK (Ms ja) k).length + 1) (sb_b 43))))] := hD
                have hO_13 := OutH.add (c := 43) hO_10 hn_11
                generalize upd fO_9 ((wrK (Ms ja) k).length + 1) (sb_b 43) = fO_12 at hP hD hO_13
                have hn_14 : (((wrK (Ms ja) k) ++ [32]) ++ [43]).length = (wrK (Ms ja) k).length + 1 + 1 := by rw [List.length_append, hn_11]; rfl
                refine lv_aload_n hx hb dX7_write_97 rfl (lv_at hl 1 rfl) ?_
                refine lv_bipush (v := nI 32) hx hb dX7_write_98 (by decide) ?_
                have hF9 := va_free (wc := [(o 0, .inr (2, mFs o (nI 0) p0 q0 r0 mu (zP ln at_ er ea vs wn op_ bw bb bp uf ((wrK (Ms ja) k).length + 1 + 1)))), (o 10, .inl (dA 2, 1200, .inl fO_12))]) hD hS (fun q h => hA q h) [1, 2] rfl
                refine c_v (wr := [(o 5, .inl (dA 1, 2640, .inr (.inl fA)))]) (va_runV (As := [.int (nI 32)]) (rest := []) ⟨hx, hb, hml, hown, hts⟩ (x7_writes Z (va_A [(o 0, .inr (2, mFs o (nI 0) p0 q0 r0 mu (zP ln at_ er ea vs wn op_ bw bb bp uf ((wrK (Ms ja) k).length + 1 + 1)))), (o 10, .inl (dA 2, 1200, .inl fO_12))] H.size) H.size (fun q h => Or.inr h) o (nI 0) p0 q0 r0 mu ln at_ er ea vs wn op_ bw bb bp uf ((wrK (Ms ja) k).length + 1 + 1) fO_12 32 (by omega)) (cwV 1 hts (lw_V q2505 q2507 qs92 q107 q2508) rfl rfl rfl (by decide +kernel) ⟨Nat.le_of_ble_eq_true rfl, Nat.le_of_ble_eq_true rfl⟩) (gP_V (va_recv hK hP (ci := 2) (q0 := 1) rfl rfl) hG hS (fun q _ h => hF9 q h) ⟨rfl, (hP.sub (ws' := [(o 0, .inr (2, mFs o (nI 0) p0 q0 r0 mu (zP ln at_ er ea vs wn op_ bw bb bp uf ((wrK (Ms ja) k).length + 1 + 1)))), (o 10, .inl (dA 2, 1200, .inl fO_12))]) [1, 2] rfl), (hD.sub (ws' := [(o 0, .inr (2, mFs o (nI 0) p0 q0 r0 mu (zP ln at_ er ea vs wn op_ bw bb bp uf ((wrK (Ms ja) k).length + 1 + 1)))), (o 10, .inl (dA 2, 1200, .inl fO_12))]) [1, 2] (by decide) rfl).self⟩) rfl rfl hl.1 rfl (lv_room (Nat.le_of_ble_eq_true rfl)) dX7_write_100 ⟨by first | decide | omega, by first | decide | omega⟩) hP hD hS hA [1, 2] [0] rfl rfl (by decide) (by decide) (fun u9 H locs hq hX hz hk hP hD hS => ?_)
                have hP : va_P (dC, dI) vwCl [(o 5, .inl (dA 1, 2640, .inr (.inl fA))), (o 0, .inr (2, mFs o (nI 0) p0 q0 r0 mu (zP ln at_ er ea vs wn op_ bw bb bp uf ((wrK (Ms ja) k).length + 1 + 1 + 1)))), (o 10, .inl (dA 2, 1200, .inl (upd fO_12 ((wrK (Ms ja) k).length + 1 + 1) (sb_b 32))))] H := hP
                have hD : va_D A [(o 5, .inl (dA 1, 2640, .inr (.inl fA))), (o 0, .inr (2, mFs o (nI 0) p0 q0 r0 mu (zP ln at_ er ea vs wn op_ bw bb bp uf ((wrK (Ms ja) k).length + 1 + 1 + 1)))), (o 10, .inl (dA 2, 1200, .inl (upd fO_12 ((wrK (Ms ja) k).length + 1 + 1) (sb_b 32))))] := hD
                have hO_16 := OutH.add (c := 32) hO_13 hn_14
                generalize upd fO_12 ((wrK (Ms ja) k).length + 1 + 1) (sb_b 32) = fO_15 at hP hD hO_16
                have hn_17 : ((((wrK (Ms ja) k) ++ [32]) ++ [43]) ++ [32]).length = (wrK (Ms ja) k).length + 1 + 1 + 1 := by rw [List.length_append, hn_14]; rfl
                refine lv_goto (tgt := 116) hx hb dX7_write_103 (by decide) ?_
                refine lv_aload_n hx hb dX7_write_116 rfl (lv_at hl 1 rfl) ?_
                refine lv_iload_n hx hb dX7_write_117 rfl (lv_at hl 2 rfl) ?_
                refine lv_iload_n hx hb dX7_write_118 rfl (lv_at hl 3 rfl) ?_
                have hF9 := va_free (wc := [(o 0, .inr (2, mFs o (nI 0) p0 q0 r0 mu (zP ln at_ er ea vs wn op_ bw bb bp uf ((wrK (Ms ja) k).length + 1 + 1 + 1)))), (o 5, .inl (dA 1, 2640, .inr (.inl fA))), (o 10, .inl (dA 2, 1200, .inl fO_15))]) hD hS (fun q h => hA q h) [1, 0, 2] rfl
                refine c_v (wr := []) (va_runV (As := [.int (nI ja), .int (nI k)]) (rest := []) ⟨hx, hb, hml, hown, hts⟩ (x7_writesTerm Z (va_A [(o 0, .inr (2, mFs o (nI 0) p0 q0 r0 mu (zP ln at_ er ea vs wn op_ bw bb bp uf ((wrK (Ms ja) k).length + 1 + 1 + 1)))), (o 5, .inl (dA 1, 2640, .inr (.inl fA))), (o 10, .inl (dA 2, 1200, .inl fO_15))] H.size) H.size (fun q h => Or.inr h) o (nI 0) p0 q0 r0 mu ln at_ er ea vs wn op_ bw bb bp uf ((wrK (Ms ja) k).length + 1 + 1 + 1) fA fO_15 ((((wrK (Ms ja) k) ++ [32]) ++ [43]) ++ [32]) ja k (Ms ja) (by omega) (by omega) hM sM hne hn_17 (by omega) hO_16) (cwV 2 hts (lw_V q2509 q2511 qs93 q107 q2512) rfl rfl rfl (by decide +kernel) ⟨Nat.le_of_ble_eq_true rfl, Nat.le_of_ble_eq_true rfl⟩) (gP_V (va_recv hK hP (ci := 2) (q0 := 1) rfl rfl) hG hS (fun q _ h => hF9 q h) ⟨rfl, (hP.sub (ws' := [(o 0, .inr (2, mFs o (nI 0) p0 q0 r0 mu (zP ln at_ er ea vs wn op_ bw bb bp uf ((wrK (Ms ja) k).length + 1 + 1 + 1)))), (o 5, .inl (dA 1, 2640, .inr (.inl fA))), (o 10, .inl (dA 2, 1200, .inl fO_15))]) [1, 0, 2] rfl), (hD.sub (ws' := [(o 0, .inr (2, mFs o (nI 0) p0 q0 r0 mu (zP ln at_ er ea vs wn op_ bw bb bp uf ((wrK (Ms ja) k).length + 1 + 1 + 1)))), (o 5, .inl (dA 1, 2640, .inr (.inl fA))), (o 10, .inl (dA 2, 1200, .inl fO_15))]) [1, 0, 2] (by decide) rfl).self⟩) rfl rfl hl.1 rfl (lv_room (Nat.le_of_ble_eq_true rfl)) dX7_write_119 ⟨by first | decide | omega, by first | decide | omega⟩) hP hD hS hA [1, 0, 2] [] rfl rfl (by decide) (by decide) (fun u9 H locs hq hX hz hk hP hD hS => ?_)
                obtain ⟨fO_18, rfl⟩ : ∃ z, z = u9 := ⟨_, rfl⟩
                have hO_19 := hq
                have hP : va_P (dC, dI) vwCl [(o 0, .inr (2, mFs o (nI 0) p0 q0 r0 mu (zP ln at_ er ea vs wn op_ bw bb bp uf ((wrK (Ms ja) k).length + 1 + 1 + 1 + (wrT (Ms ja) k).length)))), (o 5, .inl (dA 1, 2640, .inr (.inl fA))), (o 10, .inl (dA 2, 1200, .inl fO_18))] H := hP
                have hD : va_D A [(o 0, .inr (2, mFs o (nI 0) p0 q0 r0 mu (zP ln at_ er ea vs wn op_ bw bb bp uf ((wrK (Ms ja) k).length + 1 + 1 + 1 + (wrT (Ms ja) k).length)))), (o 5, .inl (dA 1, 2640, .inr (.inl fA))), (o 10, .inl (dA 2, 1200, .inl fO_18))] := hD
                have hn_20 : (((((wrK (Ms ja) k) ++ [32]) ++ [43]) ++ [32]) ++ wrT (Ms ja) k).length = (wrK (Ms ja) k).length + 1 + 1 + 1 + (wrT (Ms ja) k).length := by rw [List.length_append, hn_17]
                have e9 : wrK (Ms ja) (k + 1) = (((((wrK (Ms ja) k) ++ [32]) ++ [43]) ++ [32]) ++ wrT (Ms ja) k) := (show (if Ms ja (k + 1) = 0 then wrK (Ms ja) k else wrP (decide (Ms ja (k + 1) < 0)) (wrK (Ms ja) k) ++ wrT (Ms ja) k) = (((((wrK (Ms ja) k) ++ [32]) ++ [43]) ++ [32]) ++ wrT (Ms ja) k) from by rw [if_neg hne]; unfold wrP; rw [if_pos hl0, hneg]; rfl)
                have hO_21 : OutH (wrK (Ms ja) (k + 1)) fO_18 := by rw [e9]; exact hO_19
                have e8 : (wrK (Ms ja) k).length + 1 + 1 + 1 + (wrT (Ms ja) k).length = (wrK (Ms ja) (k + 1)).length := by rw [e9]; exact hn_20.symm
                rw [e8] at hP hD; clear e8
                have hP : va_P (dC, dI) vwCl [(o 0, .inr (2, mFs o (nI 0) p0 q0 r0 mu (zP ln at_ er ea vs wn op_ bw bb bp uf ((wrK (Ms ja) (k + 1)).length)))), (o 5, .inl (dA 1, 2640, .inr (.inl fA))), (o 10, .inl (dA 2, 1200, .inl fO_18))] H := hP
                have hD : va_D A [(o 0, .inr (2, mFs o (nI 0) p0 q0 r0 mu (zP ln at_ er ea vs wn op_ bw bb bp uf ((wrK (Ms ja) (k + 1)).length)))), (o 5, .inl (dA 1, 2640, .inr (.inl fA))), (o 10, .inl (dA 2, 1200, .inl fO_18))] := hD
                refine lv_iinc (v := nI (k + 1)) (lv' := [(2, .int (nI (k + 1))), (3, .int (nI 0)), (0, .ref (o 0)), (1, .int (nI ja))]) hx hb dX7_write_122 hl (k := 3) rfl (by exact nI_add _ 1) (by decide) rfl (fun ls hl => ?_)
                refine lv_goto (tgt := 32) hx hb dX7_write_125 (by decide) ?_
                exact ih_1 (k + 1) fO_18 H locs ls (by omega) (by omega) hO_21 (hP.sub [0, 1, 2] rfl) (hD.sub [0, 1, 2] (by decide) rfl) hS (lv_sub hl [2, 3, 0] rfl)
            · have c_60 : ¬ 0 ≤ ((Ms ja) (k + 1)) := fun h => c_60 ((lg_cmp_ge _ _).mpr h)
              have hneg : decide (Ms ja (k + 1) < 0) = true := decide_eq_true (Int64.not_le.mp c_60)
              refine lv_iconst (v := nI 1) hx hb dX7_write_63 (by decide) ?_
              refine lv_goto (tgt := 68) hx hb dX7_write_64 (by decide) ?_
              refine lv_istore_n (lv' := [(3, .int (nI 1)), (0, .ref (o 0)), (1, .int (nI ja)), (2, .int (nI k))]) hx hb dX7_write_68 rfl hl (by decide) rfl (fun ls hl => ?_)
              refine lv_aload_n hx hb dX7_write_69 rfl (lv_at hl 1 rfl) ?_
              refine va_get (D := (dC, dI)) (ci := 2) (v := .int (nI ((wrK (Ms ja) k).length))) (C := RX7) (T := TX7) (N := 27) hx hb hts in_X7 hown hK hP 0 rfl rfl 26 (by decide) (hts _ q2032) (fun _ h9 => h9) rfl dX7_write_70 ?_
              refine lv_if_le (tgt := 106) hx hb dX7_write_73 (by decide) (fun c_73 => ?_) (fun c_73 => ?_)
              · have c_73 : ((wrK (Ms ja) k).length) ≤ 0 := (nI_leI (a := ((wrK (Ms ja) k).length)) (b := 0) (by omega) (by omega)).mp c_73
                have hl0 : ¬ 0 < (wrK (Ms ja) k).length := by omega
                refine lv_iload_n hx hb dX7_write_106 rfl (lv_at hl 0 rfl) ?_
                refine lv_if_eq (tgt := 116) hx hb dX7_write_107 (by decide) (fun c_107 => ?_) (fun c_107 => ?_)
                · exact absurd c_107 (by decide)
                refine lv_aload_n hx hb dX7_write_110 rfl (lv_at hl 1 rfl) ?_
                refine lv_bipush (v := nI 45) hx hb dX7_write_111 (by decide) ?_
                have hF9 := va_free (wc := [(o 0, .inr (2, mFs o (nI 0) p0 q0 r0 mu (zP ln at_ er ea vs wn op_ bw bb bp uf ((wrK (Ms ja) k).length)))), (o 10, .inl (dA 2, 1200, .inl fB))]) hD hS (fun q h => hA q h) [0, 2] rfl
                refine c_v (wr := [(o 5, .inl (dA 1, 2640, .inr (.inl fA)))]) (va_runV (As := [.int (nI 45)]) (rest := []) ⟨hx, hb, hml, hown, hts⟩ (x7_writes Z (va_A [(o 0, .inr (2, mFs o (nI 0) p0 q0 r0 mu (zP ln at_ er ea vs wn op_ bw bb bp uf ((wrK (Ms ja) k).length)))), (o 10, .inl (dA 2, 1200, .inl fB))] H.size) H.size (fun q h => Or.inr h) o (nI 0) p0 q0 r0 mu ln at_ er ea vs wn op_ bw bb bp uf ((wrK (Ms ja) k).length) fB 45 (by omega)) (cwV 1 hts (lw_V q2505 q2507 qs92 q107 q2508) rfl rfl rfl (by decide +kernel) ⟨Nat.le_of_ble_eq_true rfl, Nat.le_of_ble_eq_true rfl⟩) (gP_V (va_recv hK hP (ci := 2) (q0 := 0) rfl rfl) hG hS (fun q _ h => hF9 q h) ⟨rfl, (hP.sub (ws' := [(o 0, .inr (2, mFs o (nI 0) p0 q0 r0 mu (zP ln at_ er ea vs wn op_ bw bb bp uf ((wrK (Ms ja) k).length)))), (o 10, .inl (dA 2, 1200, .inl fB))]) [0, 2] rfl), (hD.sub (ws' := [(o 0, .inr (2, mFs o (nI 0) p0 q0 r0 mu (zP ln at_ er ea vs wn op_ bw bb bp uf ((wrK (Ms ja) k).length)))), (o 10, .inl (dA 2, 1200, .inl fB))]) [0, 2] (by decide) rfl).self⟩) rfl rfl hl.1 rfl (lv_room (Nat.le_of_ble_eq_true rfl)) dX7_write_113 ⟨by first | decide | omega, by first | decide | omega⟩) hP hD hS hA [0, 2] [1] rfl rfl (by decide) (by decide) (fun u9 H locs hq hX hz hk hP hD hS => ?_)
                have hP : va_P (dC, dI) vwCl [(o 5, .inl (dA 1, 2640, .inr (.inl fA))), (o 0, .inr (2, mFs o (nI 0) p0 q0 r0 mu (zP ln at_ er ea vs wn op_ bw bb bp uf ((wrK (Ms ja) k).length + 1)))), (o 10, .inl (dA 2, 1200, .inl (upd fB ((wrK (Ms ja) k).length) (sb_b 45))))] H := hP
                have hD : va_D A [(o 5, .inl (dA 1, 2640, .inr (.inl fA))), (o 0, .inr (2, mFs o (nI 0) p0 q0 r0 mu (zP ln at_ er ea vs wn op_ bw bb bp uf ((wrK (Ms ja) k).length + 1)))), (o 10, .inl (dA 2, 1200, .inl (upd fB ((wrK (Ms ja) k).length) (sb_b 45))))] := hD
                have hO_23 := OutH.add (c := 45) hO9 rfl
                generalize upd fB ((wrK (Ms ja) k).length) (sb_b 45) = fO_22 at hP hD hO_23
                have hn_24 : ((wrK (Ms ja) k) ++ [45]).length = (wrK (Ms ja) k).length + 1 := by rw [List.length_append]; rfl
                refine lv_aload_n hx hb dX7_write_116 rfl (lv_at hl 1 rfl) ?_
                refine lv_iload_n hx hb dX7_write_117 rfl (lv_at hl 2 rfl) ?_
                refine lv_iload_n hx hb dX7_write_118 rfl (lv_at hl 3 rfl) ?_
                have hF9 := va_free (wc := [(o 0, .inr (2, mFs o (nI 0) p0 q0 r0 mu (zP ln at_ er ea vs wn op_ bw bb bp uf ((wrK (Ms ja) k).length + 1)))), (o 5, .inl (dA 1, 2640, .inr (.inl fA))), (o 10, .inl (dA 2, 1200, .inl fO_22))]) hD hS (fun q h => hA q h) [1, 0, 2] rfl
                refine c_v (wr := []) (va_runV (As := [.int (nI ja), .int (nI k)]) (rest := []) ⟨hx, hb, hml, hown, hts⟩ (x7_writesTerm Z (va_A [(o 0, .inr (2, mFs o (nI 0) p0 q0 r0 mu (zP ln at_ er ea vs wn op_ bw bb bp uf ((wrK (Ms ja) k).length + 1)))), (o 5, .inl (dA 1, 2640, .inr (.inl fA))), (o 10, .inl (dA 2, 1200, .inl fO_22))] H.size) H.size (fun q h => Or.inr h) o (nI 0) p0 q0 r0 mu ln at_ er ea vs wn op_ bw bb bp uf ((wrK (Ms ja) k).length + 1) fA fO_22 ((wrK (Ms ja) k) ++ [45]) ja k (Ms ja) (by omega) (by omega) hM sM hne hn_24 (by omega) hO_23) (cwV 2 hts (lw_V q2509 q2511 qs93 q107 q2512) rfl rfl rfl (by decide +kernel) ⟨Nat.le_of_ble_eq_true rfl, Nat.le_of_ble_eq_true rfl⟩) (gP_V (va_recv hK hP (ci := 2) (q0 := 1) rfl rfl) hG hS (fun q _ h => hF9 q h) ⟨rfl, (hP.sub (ws' := [(o 0, .inr (2, mFs o (nI 0) p0 q0 r0 mu (zP ln at_ er ea vs wn op_ bw bb bp uf ((wrK (Ms ja) k).length + 1)))), (o 5, .inl (dA 1, 2640, .inr (.inl fA))), (o 10, .inl (dA 2, 1200, .inl fO_22))]) [1, 0, 2] rfl), (hD.sub (ws' := [(o 0, .inr (2, mFs o (nI 0) p0 q0 r0 mu (zP ln at_ er ea vs wn op_ bw bb bp uf ((wrK (Ms ja) k).length + 1)))), (o 5, .inl (dA 1, 2640, .inr (.inl fA))), (o 10, .inl (dA 2, 1200, .inl fO_22))]) [1, 0, 2] (by decide) rfl).self⟩) rfl rfl hl.1 rfl (lv_room (Nat.le_of_ble_eq_true rfl)) dX7_write_119 ⟨by first | decide | omega, by first | decide | omega⟩) hP hD hS hA [1, 0, 2] [] rfl rfl (by decide) (by decide) (fun u9 H locs hq hX hz hk hP hD hS => ?_)
                obtain ⟨fO_25, rfl⟩ : ∃ z, z = u9 := ⟨_, rfl⟩
                have hO_26 := hq
                have hP : va_P (dC, dI) vwCl [(o 0, .inr (2, mFs o (nI 0) p0 q0 r0 mu (zP ln at_ er ea vs wn op_ bw bb bp uf ((wrK (Ms ja) k).length + 1 + (wrT (Ms ja) k).length)))), (o 5, .inl (dA 1, 2640, .inr (.inl fA))), (o 10, .inl (dA 2, 1200, .inl fO_25))] H := hP
                have hD : va_D A [(o 0, .inr (2, mFs o (nI 0) p0 q0 r0 mu (zP ln at_ er ea vs wn op_ bw bb bp uf ((wrK (Ms ja) k).length + 1 + (wrT (Ms ja) k).length)))), (o 5, .inl (dA 1, 2640, .inr (.inl fA))), (o 10, .inl (dA 2, 1200, .inl fO_25))] := hD
                have hn_27 : (((wrK (Ms ja) k) ++ [45]) ++ wrT (Ms ja) k).length = (wrK (Ms ja) k).length + 1 + (wrT (Ms ja) k).length := by rw [List.length_append, hn_24]
                have e9 : wrK (Ms ja) (k + 1) = (((wrK (Ms ja) k) ++ [45]) ++ wrT (Ms ja) k) := (show (if Ms ja (k + 1) = 0 then wrK (Ms ja) k else wrP (decide (Ms ja (k + 1) < 0)) (wrK (Ms ja) k) ++ wrT (Ms ja) k) = (((wrK (Ms ja) k) ++ [45]) ++ wrT (Ms ja) k) from by rw [if_neg hne]; unfold wrP; rw [if_neg hl0, hneg]; rfl)
                have hO_28 : OutH (wrK (Ms ja) (k + 1)) fO_25 := by rw [e9]; exact hO_26
                have e8 : (wrK (Ms ja) k).length + 1 + (wrT (Ms ja) k).length = (wrK (Ms ja) (k + 1)).length := by rw [e9]; exact hn_27.symm
                rw [e8] at hP hD; clear e8
                have hP : va_P (dC, dI) vwCl [(o 0, .inr (2, mFs o (nI 0) p0 q0 r0 mu (zP ln at_ er ea vs wn op_ bw bb bp uf ((wrK (Ms ja) (k + 1)).length)))), (o 5, .inl (dA 1, 2640, .inr (.inl fA))), (o 10, .inl (dA 2, 1200, .inl fO_25))] H := hP
                have hD : va_D A [(o 0, .inr (2, mFs o (nI 0) p0 q0 r0 mu (zP ln at_ er ea vs wn op_ bw bb bp uf ((wrK (Ms ja) (k + 1)).length)))), (o 5, .inl (dA 1, 2640, .inr (.inl fA))), (o 10, .inl (dA 2, 1200, .inl fO_25))] := hD
                refine lv_iinc (v := nI (k + 1)) (lv' := [(2, .int (nI (k + 1))), (3, .int (nI 1)), (0, .ref (o 0)), (1, .int (nI ja))]) hx hb dX7_write_122 hl (k := 3) rfl (by exact nI_add _ 1) (by decide) rfl (fun ls hl => ?_)
                refine lv_goto (tgt := 32) hx hb dX7_write_125 (by decide) ?_
                exact ih_1 (k + 1) fO_25 H locs ls (by omega) (by omega) hO_28 (hP.sub [0, 1, 2] rfl) (hD.sub [0, 1, 2] (by decide) rfl) hS (lv_sub hl [2, 3, 0] rfl)
              · have c_73 : ¬ ((wrK (Ms ja) k).length) ≤ 0 := fun h => c_73 ((nI_leI (a := ((wrK (Ms ja) k).length)) (b := 0) (by omega) (by omega)).mpr h)
                have hl0 : 0 < (wrK (Ms ja) k).length := by omega
                refine lv_aload_n hx hb dX7_write_76 rfl (lv_at hl 1 rfl) ?_
                refine lv_bipush (v := nI 32) hx hb dX7_write_77 (by decide) ?_
                have hF9 := va_free (wc := [(o 0, .inr (2, mFs o (nI 0) p0 q0 r0 mu (zP ln at_ er ea vs wn op_ bw bb bp uf ((wrK (Ms ja) k).length)))), (o 10, .inl (dA 2, 1200, .inl fB))]) hD hS (fun q h => hA q h) [0, 2] rfl
                refine c_v (wr := [(o 5, .inl (dA 1, 2640, .inr (.inl fA)))]) (va_runV (As := [.int (nI 32)]) (rest := []) ⟨hx, hb, hml, hown, hts⟩ (x7_writes Z (va_A [(o 0, .inr (2, mFs o (nI 0) p0 q0 r0 mu (zP ln at_ er ea vs wn op_ bw bb bp uf ((wrK (Ms ja) k).length)))), (o 10, .inl (dA 2, 1200, .inl fB))] H.size) H.size (fun q h => Or.inr h) o (nI 0) p0 q0 r0 mu ln at_ er ea vs wn op_ bw bb bp uf ((wrK (Ms ja) k).length) fB 32 (by omega)) (cwV 1 hts (lw_V q2505 q2507 qs92 q107 q2508) rfl rfl rfl (by decide +kernel) ⟨Nat.le_of_ble_eq_true rfl, Nat.le_of_ble_eq_true rfl⟩) (gP_V (va_recv hK hP (ci := 2) (q0 := 0) rfl rfl) hG hS (fun q _ h => hF9 q h) ⟨rfl, (hP.sub (ws' := [(o 0, .inr (2, mFs o (nI 0) p0 q0 r0 mu (zP ln at_ er ea vs wn op_ bw bb bp uf ((wrK (Ms ja) k).length)))), (o 10, .inl (dA 2, 1200, .inl fB))]) [0, 2] rfl), (hD.sub (ws' := [(o 0, .inr (2, mFs o (nI 0) p0 q0 r0 mu (zP ln at_ er ea vs wn op_ bw bb bp uf ((wrK (Ms ja) k).length)))), (o 10, .inl (dA 2, 1200, .inl fB))]) [0, 2] (by decide) rfl).self⟩) rfl rfl hl.1 rfl (lv_room (Nat.le_of_ble_eq_true rfl)) dX7_write_79 ⟨by first | decide | omega, by first | decide | omega⟩) hP hD hS hA [0, 2] [1] rfl rfl (by decide) (by decide) (fun u9 H locs hq hX hz hk hP hD hS => ?_)
                have hP : va_P (dC, dI) vwCl [(o 5, .inl (dA 1, 2640, .inr (.inl fA))), (o 0, .inr (2, mFs o (nI 0) p0 q0 r0 mu (zP ln at_ er ea vs wn op_ bw bb bp uf ((wrK (Ms ja) k).length + 1)))), (o 10, .inl (dA 2, 1200, .inl (upd fB ((wrK (Ms ja) k).length) (sb_b 32))))] H := hP
                have hD : va_D A [(o 5, .inl (dA 1, 2640, .inr (.inl fA))), (o 0, .inr (2, mFs o (nI 0) p0 q0 r0 mu (zP ln at_ er ea vs wn op_ bw bb bp uf ((wrK (Ms ja) k).length + 1)))), (o 10, .inl (dA 2, 1200, .inl (upd fB ((wrK (Ms ja) k).length) (sb_b 32))))] := hD
                have hO_30 := OutH.add (c := 32) hO9 rfl
                generalize upd fB ((wrK (Ms ja) k).length) (sb_b 32) = fO_29 at hP hD hO_30
                have hn_31 : ((wrK (Ms ja) k) ++ [32]).length = (wrK (Ms ja) k).length + 1 := by rw [List.length_append]; rfl
                refine lv_aload_n hx hb dX7_write_82 rfl (lv_at hl 1 rfl) ?_
                refine lv_iload_n hx hb dX7_write_83 rfl (lv_at hl 0 rfl) ?_
                refine lv_if_eq (tgt := 92) hx hb dX7_write_84 (by decide) (fun c_84 => ?_) (fun c_84 => ?_)
                · exact absurd c_84 (by decide)
                refine lv_bipush (v := nI 45) hx hb dX7_write_87 (by decide) ?_
                refine lv_goto (tgt := 94) hx hb dX7_write_89 (by decide) ?_
                have hF9 := va_free (wc := [(o 0, .inr (2, mFs o (nI 0) p0 q0 r0 mu (zP ln at_ er ea vs wn op_ bw bb bp uf ((wrK (Ms ja) k).length + 1)))), (o 10, .inl (dA 2, 1200, .inl fO_29))]) hD hS (fun q h => hA q h) [1, 2] rfl
                refine c_v (wr := [(o 5, .inl (dA 1, 2640, .inr (.inl fA)))]) (va_runV (As := [.int (nI 45)]) (rest := []) ⟨hx, hb, hml, hown, hts⟩ (x7_writes Z (va_A [(o 0, .inr (2, mFs o (nI 0) p0 q0 r0 mu (zP ln at_ er ea vs wn op_ bw bb bp uf ((wrK (Ms ja) k).length + 1)))), (o 10, .inl (dA 2, 1200, .inl fO_29))] H.size) H.size (fun q h => Or.inr h) o (nI 0) p0 q0 r0 mu ln at_ er ea vs wn op_ bw bb bp uf ((wrK (Ms ja) k).length + 1) fO_29 45 (by omega)) (cwV 1 hts (lw_V q2505 q2507 qs92 q107 q2508) rfl rfl rfl (by decide +kernel) ⟨Nat.le_of_ble_eq_true rfl, Nat.le_of_ble_eq_true rfl⟩) (gP_V (va_recv hK hP (ci := 2) (q0 := 1) rfl rfl) hG hS (fun q _ h => hF9 q h) ⟨rfl, (hP.sub (ws' := [(o 0, .inr (2, mFs o (nI 0) p0 q0 r0 mu (zP ln at_ er ea vs wn op_ bw bb bp uf ((wrK (Ms ja) k).length + 1)))), (o 10, .inl (dA 2, 1200, .inl fO_29))]) [1, 2] rfl), (hD.sub (ws' := [(o 0, .inr (2, mFs o (nI 0) p0 q0 r0 mu (zP ln at_ er ea vs wn op_ bw bb bp uf ((wrK (Ms ja) k).length + 1)))), (o 10, .inl (dA 2, 1200, .inl fO_29))]) [1, 2] (by decide) rfl).self⟩) rfl rfl hl.1 rfl (lv_room (Nat.le_of_ble_eq_true rfl)) dX7_write_94 ⟨by first | decide | omega, by first | decide | omega⟩) hP hD hS hA [1, 2] [0] rfl rfl (by decide) (by decide) (fun u9 H locs hq hX hz hk hP hD hS => ?_)
                have hP : va_P (dC, dI) vwCl [(o 5, .inl (dA 1, 2640, .inr (.inl fA))), (o 0, .inr (2, mFs o (nI 0) p0 q0 r0 mu (zP ln at_ er ea vs wn op_ bw bb bp uf ((wrK (Ms ja) k).length + 1 + 1)))), (o 10, .inl (dA 2, 1200, .inl (upd fO_29 ((wrK (Ms ja) k).length + 1) (sb_b 45))))] H := hP
                have hD : va_D A [(o 5, .inl (dA 1, 2640, .inr (.inl fA))), (o 0, .inr (2, mFs o (nI 0) p0 q0 r0 mu (zP ln at_ er ea vs wn op_ bw bb bp uf ((wrK (Ms ja) k).length + 1 + 1)))), (o 10, .inl (dA 2, 1200, .inl (upd fO_29 ((wrK (Ms ja) k).length + 1) (sb_b 45))))] := hD
                have hO_33 := OutH.add (c := 45) hO_30 hn_31
                generalize upd fO_29 ((wrK (Ms ja) k).length + 1) (sb_b 45) = fO_32 at hP hD hO_33
                have hn_34 : (((wrK (Ms ja) k) ++ [32]) ++ [45]).length = (wrK (Ms ja) k).length + 1 + 1 := by rw [List.length_append, hn_31]; rfl
                refine lv_aload_n hx hb dX7_write_97 rfl (lv_at hl 1 rfl) ?_
                refine lv_bipush (v := nI 32) hx hb dX7_write_98 (by decide) ?_
                have hF9 := va_free (wc := [(o 0, .inr (2, mFs o (nI 0) p0 q0 r0 mu (zP ln at_ er ea vs wn op_ bw bb bp uf ((wrK (Ms ja) k).length + 1 + 1)))), (o 10, .inl (dA 2, 1200, .inl fO_32))]) hD hS (fun q h => hA q h) [1, 2] rfl
                refine c_v (wr := [(o 5, .inl (dA 1, 2640, .inr (.inl fA)))]) (va_runV (As := [.int (nI 32)]) (rest := []) ⟨hx, hb, hml, hown, hts⟩ (x7_writes Z (va_A [(o 0, .inr (2, mFs o (nI 0) p0 q0 r0 mu (zP ln at_ er ea vs wn op_ bw bb bp uf ((wrK (Ms ja) k).length + 1 + 1)))), (o 10, .inl (dA 2, 1200, .inl fO_32))] H.size) H.size (fun q h => Or.inr h) o (nI 0) p0 q0 r0 mu ln at_ er ea vs wn op_ bw bb bp uf ((wrK (Ms ja) k).length + 1 + 1) fO_32 32 (by omega)) (cwV 1 hts (lw_V q2505 q2507 qs92 q107 q2508) rfl rfl rfl (by decide +kernel) ⟨Nat.le_of_ble_eq_true rfl, Nat.le_of_ble_eq_true rfl⟩) (gP_V (va_recv hK hP (ci := 2) (q0 := 1) rfl rfl) hG hS (fun q _ h => hF9 q h) ⟨rfl, (hP.sub (ws' := [(o 0, .inr (2, mFs o (nI 0) p0 q0 r0 mu (zP ln at_ er ea vs wn op_ bw bb bp uf ((wrK (Ms ja) k).length + 1 + 1)))), (o 10, .inl (dA 2, 1200, .inl fO_32))]) [1, 2] rfl), (hD.sub (ws' := [(o 0, .inr (2, mFs o (nI 0) p0 q0 r0 mu (zP ln at_ er ea vs wn op_ bw bb bp uf ((wrK (Ms ja) k).length + 1 + 1)))), (o 10, .inl (dA 2, 1200, .inl fO_32))]) [1, 2] (by decide) rfl).self⟩) rfl rfl hl.1 rfl (lv_room (Nat.le_of_ble_eq_true rfl)) dX7_write_100 ⟨by first | decide | omega, by first | decide | omega⟩) hP hD hS hA [1, 2] [0] rfl rfl (by decide) (by decide) (fun u9 H locs hq hX hz hk hP hD hS => ?_)
                have hP : va_P (dC, dI) vwCl [(o 5, .inl (dA 1, 2640, .inr (.inl fA))), (o 0, .inr (2, mFs o (nI 0) p0 q0 r0 mu (zP ln at_ er ea vs wn op_ bw bb bp uf ((wrK (Ms ja) k).length + 1 + 1 + 1)))), (o 10, .inl (dA 2, 1200, .inl (upd fO_32 ((wrK (Ms ja) k).length + 1 + 1) (sb_b 32))))] H := hP
                have hD : va_D A [(o 5, .inl (dA 1, 2640, .inr (.inl fA))), (o 0, .inr (2, mFs o (nI 0) p0 q0 r0 mu (zP ln at_ er ea vs wn op_ bw bb bp uf ((wrK (Ms ja) k).length + 1 + 1 + 1)))), (o 10, .inl (dA 2, 1200, .inl (upd fO_32 ((wrK (Ms ja) k).length + 1 + 1) (sb_b 32))))] := hD
                have hO_36 := OutH.add (c := 32) hO_33 hn_34
                generalize upd fO_32 ((wrK (Ms ja) k).length + 1 + 1) (sb_b 32) = fO_35 at hP hD hO_36
                have hn_37 : ((((wrK (Ms ja) k) ++ [32]) ++ [45]) ++ [32]).length = (wrK (Ms ja) k).length + 1 + 1 + 1 := by rw [List.length_append, hn_34]; rfl
                refine lv_goto (tgt := 116) hx hb dX7_write_103 (by decide) ?_
                refine lv_aload_n hx hb dX7_write_116 rfl (lv_at hl 1 rfl) ?_
                refine lv_iload_n hx hb dX7_write_117 rfl (lv_at hl 2 rfl) ?_
                refine lv_iload_n hx hb dX7_write_118 rfl (lv_at hl 3 rfl) ?_
                have hF9 := va_free (wc := [(o 0, .inr (2, mFs o (nI 0) p0 q0 r0 mu (zP ln at_ er ea vs wn op_ bw bb bp uf ((wrK (Ms ja) k).length + 1 + 1 + 1)))), (o 5, .inl (dA 1, 2640, .inr (.inl fA))), (o 10, .inl (dA 2, 1200, .inl fO_35))]) hD hS (fun q h => hA q h) [1, 0, 2] rfl
                refine c_v (wr := []) (va_runV (As := [.int (nI ja), .int (nI k)]) (rest := []) ⟨hx, hb, hml, hown, hts⟩ (x7_writesTerm Z (va_A [(o 0, .inr (2, mFs o (nI 0) p0 q0 r0 mu (zP ln at_ er ea vs wn op_ bw bb bp uf ((wrK (Ms ja) k).length + 1 + 1 + 1)))), (o 5, .inl (dA 1, 2640, .inr (.inl fA))), (o 10, .inl (dA 2, 1200, .inl fO_35))] H.size) H.size (fun q h => Or.inr h) o (nI 0) p0 q0 r0 mu ln at_ er ea vs wn op_ bw bb bp uf ((wrK (Ms ja) k).length + 1 + 1 + 1) fA fO_35 ((((wrK (Ms ja) k) ++ [32]) ++ [45]) ++ [32]) ja k (Ms ja) (by omega) (by omega) hM sM hne hn_37 (by omega) hO_36) (cwV 2 hts (lw_V q2509 q2511 qs93 q107 q2512) rfl rfl rfl (by decide +kernel) ⟨Nat.le_of_ble_eq_true rfl, Nat.le_of_ble_eq_true rfl⟩) (gP_V (va_recv hK hP (ci := 2) (q0 := 1) rfl rfl) hG hS (fun q _ h => hF9 q h) ⟨rfl, (hP.sub (ws' := [(o 0, .inr (2, mFs o (nI 0) p0 q0 r0 mu (zP ln at_ er ea vs wn op_ bw bb bp uf ((wrK (Ms ja) k).length + 1 + 1 + 1)))), (o 5, .inl (dA 1, 2640, .inr (.inl fA))), (o 10, .inl (dA 2, 1200, .inl fO_35))]) [1, 0, 2] rfl), (hD.sub (ws' := [(o 0, .inr (2, mFs o (nI 0) p0 q0 r0 mu (zP ln at_ er ea vs wn op_ bw bb bp uf ((wrK (Ms ja) k).length + 1 + 1 + 1)))), (o 5, .inl (dA 1, 2640, .inr (.inl fA))), (o 10, .inl (dA 2, 1200, .inl fO_35))]) [1, 0, 2] (by decide) rfl).self⟩) rfl rfl hl.1 rfl (lv_room (Nat.le_of_ble_eq_true rfl)) dX7_write_119 ⟨by first | decide | omega, by first | decide | omega⟩) hP hD hS hA [1, 0, 2] [] rfl rfl (by decide) (by decide) (fun u9 H locs hq hX hz hk hP hD hS => ?_)
                obtain ⟨fO_38, rfl⟩ : ∃ z, z = u9 := ⟨_, rfl⟩
                have hO_39 := hq
                have hP : va_P (dC, dI) vwCl [(o 0, .inr (2, mFs o (nI 0) p0 q0 r0 mu (zP ln at_ er ea vs wn op_ bw bb bp uf ((wrK (Ms ja) k).length + 1 + 1 + 1 + (wrT (Ms ja) k).length)))), (o 5, .inl (dA 1, 2640, .inr (.inl fA))), (o 10, .inl (dA 2, 1200, .inl fO_38))] H := hP
                have hD : va_D A [(o 0, .inr (2, mFs o (nI 0) p0 q0 r0 mu (zP ln at_ er ea vs wn op_ bw bb bp uf ((wrK (Ms ja) k).length + 1 + 1 + 1 + (wrT (Ms ja) k).length)))), (o 5, .inl (dA 1, 2640, .inr (.inl fA))), (o 10, .inl (dA 2, 1200, .inl fO_38))] := hD
                have hn_40 : (((((wrK (Ms ja) k) ++ [32]) ++ [45]) ++ [32]) ++ wrT (Ms ja) k).length = (wrK (Ms ja) k).length + 1 + 1 + 1 + (wrT (Ms ja) k).length := by rw [List.length_append, hn_37]
                have e9 : wrK (Ms ja) (k + 1) = (((((wrK (Ms ja) k) ++ [32]) ++ [45]) ++ [32]) ++ wrT (Ms ja) k) := (show (if Ms ja (k + 1) = 0 then wrK (Ms ja) k else wrP (decide (Ms ja (k + 1) < 0)) (wrK (Ms ja) k) ++ wrT (Ms ja) k) = (((((wrK (Ms ja) k) ++ [32]) ++ [45]) ++ [32]) ++ wrT (Ms ja) k) from by rw [if_neg hne]; unfold wrP; rw [if_pos hl0, hneg]; rfl)
                have hO_41 : OutH (wrK (Ms ja) (k + 1)) fO_38 := by rw [e9]; exact hO_39
                have e8 : (wrK (Ms ja) k).length + 1 + 1 + 1 + (wrT (Ms ja) k).length = (wrK (Ms ja) (k + 1)).length := by rw [e9]; exact hn_40.symm
                rw [e8] at hP hD; clear e8
                have hP : va_P (dC, dI) vwCl [(o 0, .inr (2, mFs o (nI 0) p0 q0 r0 mu (zP ln at_ er ea vs wn op_ bw bb bp uf ((wrK (Ms ja) (k + 1)).length)))), (o 5, .inl (dA 1, 2640, .inr (.inl fA))), (o 10, .inl (dA 2, 1200, .inl fO_38))] H := hP
                have hD : va_D A [(o 0, .inr (2, mFs o (nI 0) p0 q0 r0 mu (zP ln at_ er ea vs wn op_ bw bb bp uf ((wrK (Ms ja) (k + 1)).length)))), (o 5, .inl (dA 1, 2640, .inr (.inl fA))), (o 10, .inl (dA 2, 1200, .inl fO_38))] := hD
                refine lv_iinc (v := nI (k + 1)) (lv' := [(2, .int (nI (k + 1))), (3, .int (nI 1)), (0, .ref (o 0)), (1, .int (nI ja))]) hx hb dX7_write_122 hl (k := 3) rfl (by exact nI_add _ 1) (by decide) rfl (fun ls hl => ?_)
                refine lv_goto (tgt := 32) hx hb dX7_write_125 (by decide) ?_
                exact ih_1 (k + 1) fO_38 H locs ls (by omega) (by omega) hO_41 (hP.sub [0, 1, 2] rfl) (hD.sub [0, 1, 2] (by decide) rfl) hS (lv_sub hl [2, 3, 0] rfl)
          · have c_46 : ((Ms ja) (k + 1)) = 0 := (lg_cmp_eq _ _).mp c_46
            have e9 : wrK (Ms ja) (k + 1) = wrK (Ms ja) k := (show (if Ms ja (k + 1) = 0 then wrK (Ms ja) k else wrP (decide (Ms ja (k + 1) < 0)) (wrK (Ms ja) k) ++ wrT (Ms ja) k) = _ from by rw [if_pos c_46])
            rw [← e9] at hP hD hO9
            have hP : va_P (dC, dI) vwCl [(o 0, .inr (2, mFs o (nI 0) p0 q0 r0 mu (zP ln at_ er ea vs wn op_ bw bb bp uf ((wrK (Ms ja) (k + 1)).length)))), (o 5, .inl (dA 1, 2640, .inr (.inl fA))), (o 10, .inl (dA 2, 1200, .inl fB))] H := hP
            have hD : va_D A [(o 0, .inr (2, mFs o (nI 0) p0 q0 r0 mu (zP ln at_ er ea vs wn op_ bw bb bp uf ((wrK (Ms ja) (k + 1)).length)))), (o 5, .inl (dA 1, 2640, .inr (.inl fA))), (o 10, .inl (dA 2, 1200, .inl fB))] := hD
            refine lv_goto (tgt := 122) hx hb dX7_write_49 (by decide) ?_
            refine lv_iinc (v := nI (k + 1)) (lv' := [(2, .int (nI (k + 1))), (0, .ref (o 0)), (1, .int (nI ja))]) hx hb dX7_write_122 hl (k := 2) rfl (by exact nI_add _ 1) (by decide) rfl (fun ls hl => ?_)
            refine lv_goto (tgt := 32) hx hb dX7_write_125 (by decide) ?_
            exact ih_1 (k + 1) fB H locs ls (by omega) (by omega) hO9 (hP.sub [0, 1, 2] rfl) (hD.sub [0, 1, 2] (by decide) rfl) hS (lv_sub hl [1, 2, 0] rfl)
    exact loop_1 _ 0 fO H locs ls (Nat.lt_succ_self _) (by omega) OutH.nil hP hD hS (lv_sub hl [1, 2, 0] rfl)
