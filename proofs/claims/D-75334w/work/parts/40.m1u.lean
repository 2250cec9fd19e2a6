/-- what evaluate leaves -/
def EvP (fA0 : Nat → Int64) (R : (Nat × Nat) ⊕ MV) (jt : Nat) (r : Int32) (u : PU) : Prop := match R with
  | Sum.inl (c, k) => r = -1 ∧ 1 ≤ c ∧ u.er = nI c ∧ u.ea = nI k ∧ Kp fA0 u.fA (fun k => k < 24)
  | Sum.inr M => r = nI (trmS M) ∧ u.er = nI 0 ∧ u.ea = -1 ∧ Hold u.fA jt M ∧ MSm M ∧ Kp fA0 u.fA (fun k => k < 24 ∧ k ≠ jt)
theorem EvP.e {fA0 : Nat → Int64} {R : (Nat × Nat) ⊕ MV} {jt : Nat} {r : Int32} {u : PU} {c k : Nat} (h : R = Sum.inl (c, k)) (h0 : r = -1) (h1 : 1 ≤ c) (h3 : u.er = nI c) (h4 : u.ea = nI k) (h5 : Kp fA0 u.fA (fun k => k < 24)) : EvP fA0 R jt r u := by rw [h]; exact ⟨h0, h1, h3, h4, h5⟩
theorem EvP.g {fA0 : Nat → Int64} {R : (Nat × Nat) ⊕ MV} {jt : Nat} {r : Int32} {u : PU} {M : MV} (h : R = Sum.inr M) (h0 : r = nI (trmS M)) (h3 : u.er = nI 0) (h4 : u.ea = -1) (h1 : Hold u.fA jt M) (h2 : MSm M) (h5 : Kp fA0 u.fA (fun k => k < 24 ∧ k ≠ jt)) : EvP fA0 R jt r u := by rw [h]; exact ⟨h0, h3, h4, h1, h2, h5⟩
set_option maxHeartbeats 4000000 in
theorem x7_evaluate {l : Launch} {dC : Nat → ClassId} {dI : Nat → Nat → Nat} {dA : Nat → ClassId} {s0 : State} {b0 : Addr} (Z : Z0 l dC dI dA s0 b0) (A : Nat → Prop) (sz : Nat) (hA : ∀ q : Nat, sz ≤ q → A q) (o : Nat → Nat) (th : Int32) (p0 q0 r0 : Nat) (mu : Int64) (ln at_ : Nat) (er ea : Int32) (vs wn op_ : Nat) (bw bb bp : Bool) (uf : Int32) (wr_ : Nat) (fT : Nat → Int32) (fA fM : Nat → Int64) (fW fP : Nat → Int32) (Ms : Nat → MV) (t : Int32) (hn : p0 + q0 + r0 ≤ 5) (hl9 : ln ≤ 200) (hR : ∀ k, k < 8 → Hold fA k (Ms k)) (sR : ∀ k, k < 8 → MSm (Ms k)) : Met l yX7_evaluate (ws_ yX7_evaluate cX7_evaluate 2 (some .int)) ({ frames := 12, cells := 0, slots := 0, locals := 720 } : Room) (gP [.ref (o 0), .int t] s0 A (fun H => H.size = sz ∧ va_P (dC, dI) vwCl [(o 0, .inr (2, mFs o th p0 q0 r0 mu (zP ln at_ er ea vs wn op_ bw bb bp uf wr_))), (o 5, .inl (dA 1, 2640, .inr (.inl fA))), (o 6, .inl (dA 1, 32, .inr (.inl fM))), (o 7, .inl (dA 2, 200, .inl fT)), (o 8, .inl (dA 0, 100, .inl fW)), (o 9, .inl (dA 0, 100, .inl fP))] H ∧ va_D A [(o 0, .inr (2, mFs o th p0 q0 r0 mu (zP ln at_ er ea vs wn op_ bw bb bp uf wr_))), (o 5, .inl (dA 1, 2640, .inr (.inl fA))), (o 6, .inl (dA 1, 32, .inr (.inl fM))), (o 7, .inl (dA 2, 200, .inl fT)), (o 8, .inl (dA 0, 100, .inl fW)), (o 9, .inl (dA 0, 100, .inl fP))])) (va_Qi (S := Int32 × Nat × PU) (fun r u => (rgB t = false ∧ u.1 = nI 1 ∧ r = nI 0 ∧ u.2 = (ln, (fA, fM, mu, fW, fP, at_, er, ea, vs, wn, op_, bw, bb, bp, uf))) ∨ (∃ jt, jt < 8 ∧ t = nI jt ∧ u.1 = nI 0 ∧ u.2.1 = 0 ∧ EvP fA (evP (tx fT) ln p0 q0 r0 Ms bp) jt r u.2.2)) (B1 (dC, dI) A (fun u => [(o 0, .inr (2, mFs o u.1 p0 q0 r0 u.2.2.mu (zP u.2.1 u.2.2.at_ u.2.2.er u.2.2.ea u.2.2.vs u.2.2.wn u.2.2.op u.2.2.bw u.2.2.bb u.2.2.bp u.2.2.uf wr_))), (o 5, .inl (dA 1, 2640, .inr (.inl u.2.2.fA))), (o 6, .inl (dA 1, 32, .inr (.inl u.2.2.fM))), (o 7, .inl (dA 2, 200, .inl fT)), (o 8, .inl (dA 0, 100, .inl u.2.2.fW)), (o 9, .inl (dA 0, 100, .inl u.2.2.fP))]) (fun _ _ => True)) A) 0 0 A := by
  refine Met.ofW (cc := cX7_evaluate) (maxL := 2) (ret := (some .int)) (by decide) rfl ?_
  intro p e s m args below meth c s₁ B hml hv
  obtain ⟨hav, hG, hsz, hP, hD⟩ := hv
  have hx := B.exec
  have hb := B.bytes
  have hr := B.returns
  have hts := atoms_spec (ws := (ws_ yX7_evaluate cX7_evaluate 2 (some .int))) B.pre
  have hts : ∀ w ∈ lw_all, w.before _ s = true := fun w h => hts w (List.mem_cons_of_mem _ h)
  have hown : s.vm.findClass RX7 = some m.cls := findClass_of_methodNamed B.named
  have hlocks := B.notSynchronized
  have hK := hG.K Z
  subst hsz
  have hS : va_S A s.heap s.heap [] := va_S.rf
  have hl := lv_entry ([.ref (o 0), .int t]) (n := 2) (Nat.le_of_ble_eq_true rfl)
  rw [show entryFrame m args 2 = entryFrame m ([.ref (o 0), .int t] : List Value).toArray 2 from by rw [hav], lg_entry_eq]
  generalize (lg_sl ([.ref (o 0), .int t]) ++ List.replicate (2 - (lg_sl ([.ref (o 0), .int t])).length) Slot.unset).toArray = ls at hl ⊢
  have hl : lv_has ls 2 [(0, .ref (o 0)), (1, .int t)] := hl
  generalize hQe : MQ below _ _ s _ _ _ = Q
  change W p l e ({ frames := 12, cells := 0, slots := 0, locals := 720 } : Room) s m args below meth c s.heap [] 0 0 Q (F0 m 0 ls [])
  refine lv_aload_n hx hb dX7_evaluate_0 rfl (lv_at hl 0 rfl) ?_
  refine lv_iload_n hx hb dX7_evaluate_1 rfl (lv_at hl 1 rfl) ?_
  refine s_i (va_runS (As := [.int t]) (rest := [.ref (o 0)]) ⟨hx, hb, hml, hown, hts⟩ (x7_isRegister Z t) (va_cwS 1 hts (lw_S q2104 q2105 q107 q2106) rfl rfl rfl (by decide +kernel) ⟨Nat.le_of_ble_eq_true rfl, Nat.le_of_ble_eq_true rfl⟩) (gP_S hG hS (fun q _ h => h.elim) trivial) rfl rfl hl.1 rfl (lv_room (Nat.le_of_ble_eq_true rfl)) dX7_evaluate_2 ⟨by first | decide | omega, by first | decide | omega⟩) ?_
  refine lv_if_eq (tgt := 12) hx hb dX7_evaluate_5 (by decide) (fun c_5 => ?_) (fun c_5 => ?_)
  · have h_t := bI_0 c_5
    refine lv_iconst (v := nI 1) hx hb dX7_evaluate_12 (by decide) ?_
    refine va_put (D := (dC, dI)) (ci := 2) (v := .int (nI 1)) (ty := .int) (C := RX7) (T := TX7) (N := 27) hx hb hts in_X7 tyX7 tyX7_ok nmX7 hown hK hP hD hS 0 rfl rfl 0 (by decide) (hts _ q2006) (fun _ h9 => h9) rfl (by decide +kernel) rfl rfl (Nat.le_of_ble_eq_true rfl) dX7_evaluate_13 (fun H locs hP hD hS => ?_)
    have hP : va_P (dC, dI) vwCl [(o 0, .inr (2, mFs o (nI 1) p0 q0 r0 mu (zP ln at_ er ea vs wn op_ bw bb bp uf wr_))), (o 5, .inl (dA 1, 2640, .inr (.inl fA))), (o 6, .inl (dA 1, 32, .inr (.inl fM))), (o 7, .inl (dA 2, 200, .inl fT)), (o 8, .inl (dA 0, 100, .inl fW)), (o 9, .inl (dA 0, 100, .inl fP))] H := hP
    have hD : va_D A [(o 0, .inr (2, mFs o (nI 1) p0 q0 r0 mu (zP ln at_ er ea vs wn op_ bw bb bp uf wr_))), (o 5, .inl (dA 1, 2640, .inr (.inl fA))), (o 6, .inl (dA 1, 32, .inr (.inl fM))), (o 7, .inl (dA 2, 200, .inl fT)), (o 8, .inl (dA 0, 100, .inl fW)), (o 9, .inl (dA 0, 100, .inl fP))] := hD
    refine lv_aload_n hx hb dX7_evaluate_16 rfl (lv_at hl 0 rfl) ?_
    refine va_get (D := (dC, dI)) (ci := 2) (v := .int (nI 1)) (C := RX7) (T := TX7) (N := 27) hx hb hts in_X7 hown hK hP 0 rfl rfl 0 (by decide) (hts _ q2006) (fun _ h9 => h9) rfl dX7_evaluate_17 ?_
    refine lv_if_le (tgt := 25) hx hb dX7_evaluate_20 (by decide) (fun c_20 => ?_) (fun c_20 => ?_)
    · exact absurd c_20 (by decide)
    refine lv_iconst (v := nI 0) hx hb dX7_evaluate_23 (by decide) ?_
    subst hQe
    exact W.iret (v := nI 0) hx hb hr (fun tz ht hW => ⟨⟨_, (nI 1, ln, (fA, fM, mu, fW, fP, at_, er, ea, vs, wn, op_, bw, bb, bp, uf)), rfl, Or.inl ⟨(by unfold rgB; exact h_t), rfl, rfl, rfl⟩, B1_at ht (hP.sub [0, 1, 2, 3, 4, 5] rfl) (hD.sub [0, 1, 2, 3, 4, 5] (by decide) rfl) trivial⟩, hS.F ht⟩) hS.2.2 dX7_evaluate_24
  · have h_t := bI_1 c_5
    obtain ⟨jt, hj_t, rfl⟩ := inB_nat (by decide) h_t
    refine lv_iconst (v := nI 0) hx hb dX7_evaluate_8 (by decide) ?_
    refine lv_goto (tgt := 13) hx hb dX7_evaluate_9 (by decide) ?_
    refine va_put (D := (dC, dI)) (ci := 2) (v := .int (nI 0)) (ty := .int) (C := RX7) (T := TX7) (N := 27) hx hb hts in_X7 tyX7 tyX7_ok nmX7 hown hK hP hD hS 0 rfl rfl 0 (by decide) (hts _ q2006) (fun _ h9 => h9) rfl (by decide +kernel) rfl rfl (Nat.le_of_ble_eq_true rfl) dX7_evaluate_13 (fun H locs hP hD hS => ?_)
    have hP : va_P (dC, dI) vwCl [(o 0, .inr (2, mFs o (nI 0) p0 q0 r0 mu (zP ln at_ er ea vs wn op_ bw bb bp uf wr_))), (o 5, .inl (dA 1, 2640, .inr (.inl fA))), (o 6, .inl (dA 1, 32, .inr (.inl fM))), (o 7, .inl (dA 2, 200, .inl fT)), (o 8, .inl (dA 0, 100, .inl fW)), (o 9, .inl (dA 0, 100, .inl fP))] H := hP
    have hD : va_D A [(o 0, .inr (2, mFs o (nI 0) p0 q0 r0 mu (zP ln at_ er ea vs wn op_ bw bb bp uf wr_))), (o 5, .inl (dA 1, 2640, .inr (.inl fA))), (o 6, .inl (dA 1, 32, .inr (.inl fM))), (o 7, .inl (dA 2, 200, .inl fT)), (o 8, .inl (dA 0, 100, .inl fW)), (o 9, .inl (dA 0, 100, .inl fP))] := hD
    refine lv_aload_n hx hb dX7_evaluate_16 rfl (lv_at hl 0 rfl) ?_
    refine va_get (D := (dC, dI)) (ci := 2) (v := .int (nI 0)) (C := RX7) (T := TX7) (N := 27) hx hb hts in_X7 hown hK hP 0 rfl rfl 0 (by decide) (hts _ q2006) (fun _ h9 => h9) rfl dX7_evaluate_17 ?_
    refine lv_if_le (tgt := 25) hx hb dX7_evaluate_20 (by decide) (fun c_20 => ?_) (fun c_20 => ?_)
    rotate_left
    · exact absurd (by decide) c_20
    refine lv_aload_n hx hb dX7_evaluate_25 rfl (lv_at hl 0 rfl) ?_
    have hF9 := va_free (wc := [(o 0, .inr (2, mFs o (nI 0) p0 q0 r0 mu (zP ln at_ er ea vs wn op_ bw bb bp uf wr_))), (o 5, .inl (dA 1, 2640, .inr (.inl fA))), (o 6, .inl (dA 1, 32, .inr (.inl fM))), (o 7, .inl (dA 2, 200, .inl fT)), (o 8, .inl (dA 0, 100, .inl fW)), (o 9, .inl (dA 0, 100, .inl fP))]) hD hS (fun q h => hA q h) [0, 1, 2, 3, 4, 5] rfl
    refine c_v (wr := []) (va_runV (As := []) (rest := []) ⟨hx, hb, hml, hown, hts⟩ (x7_computes Z (va_A [(o 0, .inr (2, mFs o (nI 0) p0 q0 r0 mu (zP ln at_ er ea vs wn op_ bw bb bp uf wr_))), (o 5, .inl (dA 1, 2640, .inr (.inl fA))), (o 6, .inl (dA 1, 32, .inr (.inl fM))), (o 7, .inl (dA 2, 200, .inl fT)), (o 8, .inl (dA 0, 100, .inl fW)), (o 9, .inl (dA 0, 100, .inl fP))] H.size) H.size (fun q h => Or.inr h) o (nI 0) p0 q0 r0 mu ln at_ er ea vs wn op_ bw bb bp uf wr_ fT fA fM fW fP Ms hn hl9 hR sR) (cwV 0 hts (lw_V q2426 q2428 qs76 q107 q2429) rfl rfl rfl (by decide +kernel) ⟨Nat.le_of_ble_eq_true rfl, Nat.le_of_ble_eq_true rfl⟩) (gP_V (va_recv hK hP (ci := 2) (q0 := 0) rfl rfl) hG hS (fun q _ h => hF9 q h) ⟨rfl, (hP.sub (ws' := [(o 0, .inr (2, mFs o (nI 0) p0 q0 r0 mu (zP ln at_ er ea vs wn op_ bw bb bp uf wr_))), (o 5, .inl (dA 1, 2640, .inr (.inl fA))), (o 6, .inl (dA 1, 32, .inr (.inl fM))), (o 7, .inl (dA 2, 200, .inl fT)), (o 8, .inl (dA 0, 100, .inl fW)), (o 9, .inl (dA 0, 100, .inl fP))]) [0, 1, 2, 3, 4, 5] rfl), (hD.sub (ws' := [(o 0, .inr (2, mFs o (nI 0) p0 q0 r0 mu (zP ln at_ er ea vs wn op_ bw bb bp uf wr_))), (o 5, .inl (dA 1, 2640, .inr (.inl fA))), (o 6, .inl (dA 1, 32, .inr (.inl fM))), (o 7, .inl (dA 2, 200, .inl fT)), (o 8, .inl (dA 0, 100, .inl fW)), (o 9, .inl (dA 0, 100, .inl fP))]) [0, 1, 2, 3, 4, 5] (by decide) rfl).self⟩) rfl rfl hl.1 rfl (lv_room (Nat.le_of_ble_eq_true rfl)) dX7_evaluate_26 ⟨by first | decide | omega, by first | decide | omega⟩) hP hD hS hA [0, 1, 2, 3, 4, 5] [] rfl rfl (by decide) (by decide) (fun u9 H locs hq hX hz hk hP hD hS => ?_)
    obtain ⟨fA_1, fM_1, mu_1, fW_1, fP_1, at_1, er_1, ea_1, vs_1, wn_1, op_1, bw_1, bb_1, bp_1, uf_1⟩ := u9
    have hq9 := hq
    have hP : va_P (dC, dI) vwCl [(o 0, .inr (2, mFs o (nI 0) p0 q0 r0 mu_1 (zP ln at_1 er_1 ea_1 vs_1 wn_1 op_1 bw_1 bb_1 bp_1 uf_1 wr_))), (o 5, .inl (dA 1, 2640, .inr (.inl fA_1))), (o 6, .inl (dA 1, 32, .inr (.inl fM_1))), (o 7, .inl (dA 2, 200, .inl fT)), (o 8, .inl (dA 0, 100, .inl fW_1)), (o 9, .inl (dA 0, 100, .inl fP_1))] H := hP
    have hD : va_D A [(o 0, .inr (2, mFs o (nI 0) p0 q0 r0 mu_1 (zP ln at_1 er_1 ea_1 vs_1 wn_1 op_1 bw_1 bb_1 bp_1 uf_1 wr_))), (o 5, .inl (dA 1, 2640, .inr (.inl fA_1))), (o 6, .inl (dA 1, 32, .inr (.inl fM_1))), (o 7, .inl (dA 2, 200, .inl fT)), (o 8, .inl (dA 0, 100, .inl fW_1)), (o 9, .inl (dA 0, 100, .inl fP_1))] := hD
    rcases hev : evP (tx fT) ln p0 q0 r0 Ms bp with ⟨c8, k8⟩ | M8
    · rw [hev] at hq9
      obtain ⟨hc1, hc2, her, hea, hK9⟩ := hq9
      have her : er_1 = nI c8 := her
      have hea : ea_1 = nI k8 := hea
      subst her
      subst hea
      refine lv_aload_n hx hb dX7_evaluate_29 rfl (lv_at hl 0 rfl) ?_
      refine lv_iconst (v := nI 0) hx hb dX7_evaluate_30 (by decide) ?_
      refine va_put (D := (dC, dI)) (ci := 2) (v := .int (nI 0)) (ty := .int) (C := RX7) (T := TX7) (N := 27) hx hb hts in_X7 tyX7 tyX7_ok nmX7 hown hK hP hD hS 0 rfl rfl 12 (by decide) (hts _ q2018) (fun _ h9 => h9) rfl (by decide +kernel) rfl rfl (Nat.le_of_ble_eq_true rfl) dX7_evaluate_31 (fun H locs hP hD hS => ?_)
      have hP : va_P (dC, dI) vwCl [(o 0, .inr (2, mFs o (nI 0) p0 q0 r0 mu_1 (zP 0 at_1 (nI c8) (nI k8) vs_1 wn_1 op_1 bw_1 bb_1 bp_1 uf_1 wr_))), (o 5, .inl (dA 1, 2640, .inr (.inl fA_1))), (o 6, .inl (dA 1, 32, .inr (.inl fM_1))), (o 7, .inl (dA 2, 200, .inl fT)), (o 8, .inl (dA 0, 100, .inl fW_1)), (o 9, .inl (dA 0, 100, .inl fP_1))] H := hP
      have hD : va_D A [(o 0, .inr (2, mFs o (nI 0) p0 q0 r0 mu_1 (zP 0 at_1 (nI c8) (nI k8) vs_1 wn_1 op_1 bw_1 bb_1 bp_1 uf_1 wr_))), (o 5, .inl (dA 1, 2640, .inr (.inl fA_1))), (o 6, .inl (dA 1, 32, .inr (.inl fM_1))), (o 7, .inl (dA 2, 200, .inl fT)), (o 8, .inl (dA 0, 100, .inl fW_1)), (o 9, .inl (dA 0, 100, .inl fP_1))] := hD
      refine lv_aload_n hx hb dX7_evaluate_34 rfl (lv_at hl 0 rfl) ?_
      refine va_get (D := (dC, dI)) (ci := 2) (v := .int (nI c8)) (C := RX7) (T := TX7) (N := 27) hx hb hts in_X7 hown hK hP 0 rfl rfl 14 (by decide) (hts _ q2020) (fun _ h9 => h9) rfl dX7_evaluate_35 ?_
      refine lv_if_le (tgt := 45) hx hb dX7_evaluate_38 (by decide) (fun c_38 => ?_) (fun c_38 => ?_)
      · have c_38 : c8 ≤ 0 := (nI_leI (a := c8) (b := 0) (by omega) (by omega)).mp c_38
        exact absurd c_38 (by omega)
      · have c_38 : ¬ c8 ≤ 0 := fun h => c_38 ((nI_leI (a := c8) (b := 0) (by omega) (by omega)).mpr h)
        refine lv_iconst (v := (-1)) hx hb dX7_evaluate_41 (by decide) ?_
        refine lv_goto (tgt := 52) hx hb dX7_evaluate_42 (by decide) ?_
        subst hQe
        exact W.iret (v := (-1)) hx hb hr (fun tz ht hW => ⟨⟨_, (nI 0, 0, (fA_1, fM_1, mu_1, fW_1, fP_1, at_1, nI c8, (nI k8), vs_1, wn_1, op_1, bw_1, bb_1, bp_1, uf_1)), rfl, Or.inr ⟨jt, by omega, rfl, rfl, rfl, EvP.e hev rfl hc1 rfl rfl hK9⟩, B1_at ht (hP.sub [0, 1, 2, 3, 4, 5] rfl) (hD.sub [0, 1, 2, 3, 4, 5] (by decide) rfl) trivial⟩, hS.F ht⟩) hS.2.2 dX7_evaluate_52
    · rw [hev] at hq9
      obtain ⟨her, hea, hH9, sM9, hK9⟩ := hq9
      have her : er_1 = nI 0 := her
      have hea : ea_1 = -1 := hea
      subst her
      subst hea
      refine lv_aload_n hx hb dX7_evaluate_29 rfl (lv_at hl 0 rfl) ?_
      refine lv_iconst (v := nI 0) hx hb dX7_evaluate_30 (by decide) ?_
      refine va_put (D := (dC, dI)) (ci := 2) (v := .int (nI 0)) (ty := .int) (C := RX7) (T := TX7) (N := 27) hx hb hts in_X7 tyX7 tyX7_ok nmX7 hown hK hP hD hS 0 rfl rfl 12 (by decide) (hts _ q2018) (fun _ h9 => h9) rfl (by decide +kernel) rfl rfl (Nat.le_of_ble_eq_true rfl) dX7_evaluate_31 (fun H locs hP hD hS => ?_)
      have hP : va_P (dC, dI) vwCl [(o 0, .inr (2, mFs o (nI 0) p0 q0 r0 mu_1 (zP 0 at_1 (nI 0) (-1) vs_1 wn_1 op_1 bw_1 bb_1 bp_1 uf_1 wr_))), (o 5, .inl (dA 1, 2640, .inr (.inl fA_1))), (o 6, .inl (dA 1, 32, .inr (.inl fM_1))), (o 7, .inl (dA 2, 200, .inl fT)), (o 8, .inl (dA 0, 100, .inl fW_1)), (o 9, .inl (dA 0, 100, .inl fP_1))] H := hP
      have hD : va_D A [(o 0, .inr (2, mFs o (nI 0) p0 q0 r0 mu_1 (zP 0 at_1 (nI 0) (-1) vs_1 wn_1 op_1 bw_1 bb_1 bp_1 uf_1 wr_))), (o 5, .inl (dA 1, 2640, .inr (.inl fA_1))), (o 6, .inl (dA 1, 32, .inr (.inl fM_1))), (o 7, .inl (dA 2, 200, .inl fT)), (o 8, .inl (dA 0, 100, .inl fW_1)), (o 9, .inl (dA 0, 100, .inl fP_1))] := hD
      refine lv_aload_n hx hb dX7_evaluate_34 rfl (lv_at hl 0 rfl) ?_
      refine va_get (D := (dC, dI)) (ci := 2) (v := .int (nI 0)) (C := RX7) (T := TX7) (N := 27) hx hb hts in_X7 hown hK hP 0 rfl rfl 14 (by decide) (hts _ q2020) (fun _ h9 => h9) rfl dX7_evaluate_35 ?_
      refine lv_if_le (tgt := 45) hx hb dX7_evaluate_38 (by decide) (fun c_38 => ?_) (fun c_38 => ?_)
      rotate_left
      · exact absurd (by decide) c_38
      refine lv_aload_n hx hb dX7_evaluate_45 rfl (lv_at hl 0 rfl) ?_
      refine lv_bipush (v := nI 32) hx hb dX7_evaluate_46 (by decide) ?_
      refine lv_iload_n hx hb dX7_evaluate_48 rfl (lv_at hl 1 rfl) ?_
      have hF9 := va_free (wc := [(o 0, .inr (2, mFs o (nI 0) p0 q0 r0 mu_1 (zP 0 at_1 (nI 0) (-1) vs_1 wn_1 op_1 bw_1 bb_1 bp_1 uf_1 wr_))), (o 5, .inl (dA 1, 2640, .inr (.inl fA_1)))]) hD hS (fun q h => hA q h) [0, 1] rfl
      refine c_i (wr := [(o 6, .inl (dA 1, 32, .inr (.inl fM_1))), (o 7, .inl (dA 2, 200, .inl fT)), (o 8, .inl (dA 0, 100, .inl fW_1)), (o 9, .inl (dA 0, 100, .inl fP_1))]) (va_runV (As := [.int (nI 32), .int (nI jt)]) (rest := []) ⟨hx, hb, hml, hown, hts⟩ (x7_gives Z (va_A [(o 0, .inr (2, mFs o (nI 0) p0 q0 r0 mu_1 (zP 0 at_1 (nI 0) (-1) vs_1 wn_1 op_1 bw_1 bb_1 bp_1 uf_1 wr_))), (o 5, .inl (dA 1, 2640, .inr (.inl fA_1)))] H.size) H.size (fun q h => Or.inr h) o (nI 0) p0 q0 r0 mu_1 (zP 0 at_1 (nI 0) (-1) vs_1 wn_1 op_1 bw_1 bb_1 bp_1 uf_1 wr_) fA_1 fM_1 32 jt (by omega) (by omega)) (cwV 2 hts (lw_V q2181 q2183 qs48 q107 q2184) rfl rfl rfl (by decide +kernel) ⟨Nat.le_of_ble_eq_true rfl, Nat.le_of_ble_eq_true rfl⟩) (gP_V (va_recv hK hP (ci := 2) (q0 := 0) rfl rfl) hG hS (fun q _ h => hF9 q h) ⟨rfl, (hP.sub (ws' := [(o 0, .inr (2, mFs o (nI 0) p0 q0 r0 mu_1 (zP 0 at_1 (nI 0) (-1) vs_1 wn_1 op_1 bw_1 bb_1 bp_1 uf_1 wr_))), (o 5, .inl (dA 1, 2640, .inr (.inl fA_1)))]) [0, 1] rfl), (hD.sub (ws' := [(o 0, .inr (2, mFs o (nI 0) p0 q0 r0 mu_1 (zP 0 at_1 (nI 0) (-1) vs_1 wn_1 op_1 bw_1 bb_1 bp_1 uf_1 wr_))), (o 5, .inl (dA 1, 2640, .inr (.inl fA_1)))]) [0, 1] (by decide) rfl).self⟩) rfl rfl hl.1 rfl (lv_room (Nat.le_of_ble_eq_true rfl)) dX7_evaluate_49 ⟨by first | decide | omega, by first | decide | omega⟩) hP hD hS hA [0, 1] [2, 3, 4, 5] rfl rfl (by decide) (by decide) (fun r9 u9 H locs hq hX hz hk hP hD hS => ?_)
      obtain ⟨r_2, rfl⟩ : ∃ z, z = r9 := ⟨_, rfl⟩
      obtain rfl := hq
      have hP : va_P (dC, dI) vwCl [(o 6, .inl (dA 1, 32, .inr (.inl fM_1))), (o 7, .inl (dA 2, 200, .inl fT)), (o 8, .inl (dA 0, 100, .inl fW_1)), (o 9, .inl (dA 0, 100, .inl fP_1)), (o 0, .inr (2, mFs o (nI 0) p0 q0 r0 mu_1 (zP 0 at_1 (nI 0) (-1) vs_1 wn_1 op_1 bw_1 bb_1 bp_1 uf_1 wr_))), (o 5, .inl (dA 1, 2640, .inr (.inl (cpS fA_1 32 jt))))] H := hP
      have hD : va_D A [(o 6, .inl (dA 1, 32, .inr (.inl fM_1))), (o 7, .inl (dA 2, 200, .inl fT)), (o 8, .inl (dA 0, 100, .inl fW_1)), (o 9, .inl (dA 0, 100, .inl fP_1)), (o 0, .inr (2, mFs o (nI 0) p0 q0 r0 mu_1 (zP 0 at_1 (nI 0) (-1) vs_1 wn_1 op_1 bw_1 bb_1 bp_1 uf_1 wr_))), (o 5, .inl (dA 1, 2640, .inr (.inl (cpS fA_1 32 jt))))] := hD
      have hc_4 := cpS_hold (t := jt) hH9
      have hs_5 := cpS_same (fA := fA_1) (k := 32) (t := jt)
      generalize cpS fA_1 32 jt = fA_3 at hP hD hc_4 hs_5 ⊢
      have hh_6 := hs_5.hold (j := 32) (by omega) hH9
      subst hQe
      exact W.iret (v := nI (cntN (fun j => fA_3 (33 * jt + 1 + j)) 32)) hx hb hr (fun tz ht hW => ⟨⟨_, (nI 0, 0, (fA_3, fM_1, mu_1, fW_1, fP_1, at_1, nI 0, (-1), vs_1, wn_1, op_1, bw_1, bb_1, bp_1, uf_1)), rfl, Or.inr ⟨jt, by omega, rfl, rfl, rfl, EvP.g hev (congrArg nI (trm_of hc_4)) rfl rfl hc_4 sM9 (fun k9 hk9 i9 hi9 => (hs_5 _ (by have := hk9.2; omega)).trans (hK9 k9 hk9.1 i9 hi9))⟩, B1_at ht (hP.sub [4, 5, 0, 1, 2, 3] rfl) (hD.sub [4, 5, 0, 1, 2, 3] (by decide) rfl) trivial⟩, hS.F ht⟩) hS.2.2 dX7_evaluate_52
