theorem PI_0 {ln : Nat} {bp : Bool} (_h : 0 ≤ ln) : ∀ (x : PS) (b : Bool), PR.go (0, true, true, bp, [], [], none) = Sum.inr (x, b) → PI ln x := fun x b e => by
  cases e
  exact ⟨Nat.zero_le _, trivial, Nat.zero_le _, rfl, fun _ => ⟨rfl, rfl⟩, fun k h => (by cases h), fun c h => absurd h List.not_mem_nil, fun c h => absurd h List.not_mem_nil⟩
theorem runP_e {T : Nat → Nat} {ln p q r : Nat} {Ms : Nat → MV} {f : Nat} {e : Nat × Nat} : runP T ln p q r Ms f (Sum.inl e) = Sum.inl e := by cases f <;> rfl
theorem runP_f {T : Nat → Nat} {ln p q r : Nat} {Ms : Nat → MV} {f : Nat} {x : PS} : runP T ln p q r Ms f (Sum.inr (x, false)) = Sum.inr x := by cases f <;> rfl
theorem PUst.tr {fA0 fA1 : Nat → Int64} {ea : Int32} {R : PR} {u : PU} (h : Kp fA0 fA1 (fun k => k < 24)) (h1 : PUst fA1 ea R u) : PUst fA0 ea R u := by
  have ht : Kp fA1 u.fA (fun k => k < 24) → Kp fA0 u.fA (fun k => k < 24) := fun g k hk i hi => (g k hk i hi).trans (h k hk i hi)
  match R, h1 with
  | Sum.inl (c, k), h1 => exact ⟨h1.1, h1.2.1, ht h1.2.2⟩
  | Sum.inr (x, b), ⟨⟨a1, a2, a3, a4, a5, a6, a7, a8, a9, b1, b2, b3⟩, h2⟩ => exact ⟨⟨a1, a2, a3, a4, a5, a6, a7, a8, a9, b1, b2, ht b3⟩, h2⟩
theorem stO_r {T : Nat → Nat} {ln p q r : Nat} {Ms : Nat → MV} {x : PS} (hln : ln ≤ 200) (sR : ∀ k, k < 8 → MSm (Ms k)) (h : PI ln x) (hw : x.wants = true) : PRr (stO T ln p q r Ms x) = nI 1 := by
  rcases e : stO T ln p q r Ms x with ⟨c, k⟩ | ⟨y, b⟩
  · rfl
  · have := (stO_PI hln sR h hw e).2.1
    subst this; rfl
theorem numE_c {T : Nat → Nat} {ln l i : Nat} (h : ¬ numE T ln l i = 0) : 1 ≤ numE T ln l i ∧ numE T ln l i < 100 := by
  have := numE2 T ln l i
  omega
theorem namE_c {T : Nat → Nat} {ln n i : Nat} (h : ¬ namE T ln n i = 0) : 1 ≤ namE T ln n i ∧ namE T ln n i < 100 := by
  have : namE T ln n i ≤ 2 := by
    unfold namE
    split
    · omega
    · split
      · split <;> omega
      · split <;> omega
  omega
theorem stO_er {T : Nat → Nat} {ln p q r : Nat} {Ms : Nat → MV} {x : PS} {c k : Nat} (e : stO T ln p q r Ms x = Sum.inl (c, k)) : 1 ≤ c ∧ c < 100 := by
  unfold stO at e
  split at e
  · cases e
  · split at e
    · split at e
      · cases e
      · rename_i d; cases e; exact numE_c d
    · split at e
      · split at e
        · cases e
        · rename_i d; cases e; exact namE_c d
      · split at e
        · split at e
          · cases e; decide
          · cases e
        · cases e; decide
theorem stB_er {T : Nat → Nat} {ln p q r : Nat} {x : PS} {c k : Nat} (e : stB T ln p q r x = Sum.inl (c, k)) : 1 ≤ c ∧ c < 100 := by
  unfold stB at e
  split at e
  · cases e
  · split at e
    · split at e
      · cases e
      · rename_i d; cases e; exact numE_c d
    · split at e
      · cases e
      · split at e
        · cases e
        · split at e
          · cases e
          · cases e; decide
/-- what the parser leaves: an error and its place, or a value in the first of its slots -/
def COp (fA0 : Nat → Int64) : (Nat × Nat) ⊕ MV → PU → Prop
  | Sum.inl (c, k), u => 1 ≤ c ∧ c < 100 ∧ u.er = nI c ∧ u.ea = nI k ∧ Kp fA0 u.fA (fun k => k < 24)
  | Sum.inr M, u => u.er = nI 0 ∧ u.ea = -1 ∧ Hold u.fA 32 M ∧ MSm M ∧ Kp fA0 u.fA (fun k => k < 24)
theorem COp.e {fA0 : Nat → Int64} {R : (Nat × Nat) ⊕ MV} {u : PU} {c k : Nat} (h : R = Sum.inl (c, k)) (h1 : 1 ≤ c) (h2 : c < 100) (h3 : u.er = nI c) (h4 : u.ea = nI k) (h5 : Kp fA0 u.fA (fun k => k < 24)) : COp fA0 R u := by rw [h]; exact ⟨h1, h2, h3, h4, h5⟩
theorem COp.g {fA0 : Nat → Int64} {R : (Nat × Nat) ⊕ MV} {u : PU} {M : MV} (h : R = Sum.inr M) (h3 : u.er = nI 0) (h4 : u.ea = -1) (h1 : Hold u.fA 32 M) (h2 : MSm M) (h5 : Kp fA0 u.fA (fun k => k < 24)) : COp fA0 R u := by rw [h]; exact ⟨h3, h4, h1, h2, h5⟩
set_option maxHeartbeats 4000000 in
theorem x7_computes {l : Launch} {dC : Nat → ClassId} {dI : Nat → Nat → Nat} {dA : Nat → ClassId} {s0 : State} {b0 : Addr} (Z : Z0 l dC dI dA s0 b0) (A : Nat → Prop) (sz : Nat) (hA : ∀ q : Nat, sz ≤ q → A q) (o : Nat → Nat) (th : Int32) (p0 q0 r0 : Nat) (mu : Int64) (ln at_ : Nat) (er ea : Int32) (vs wn op_ : Nat) (bw bb bp : Bool) (uf : Int32) (wr_ : Nat) (fT : Nat → Int32) (fA fM : Nat → Int64) (fW fP : Nat → Int32) (Ms : Nat → MV) (hn : p0 + q0 + r0 ≤ 5) (hl9 : ln ≤ 200) (hR : ∀ k, k < 8 → Hold fA k (Ms k)) (sR : ∀ k, k < 8 → MSm (Ms k)) : Met l yX7_computes (ws_ yX7_computes cX7_computes 2 none) ({ frames := 11, cells := 0, slots := 0, locals := 660 } : Room) (gP [.ref (o 0)] s0 A (fun H => H.size = sz ∧ va_P (dC, dI) vwCl [(o 0, .inr (2, mFs o th p0 q0 r0 mu (zP ln at_ er ea vs wn op_ bw bb bp uf wr_))), (o 5, .inl (dA 1, 2640, .inr (.inl fA))), (o 6, .inl (dA 1, 32, .inr (.inl fM))), (o 7, .inl (dA 2, 200, .inl fT)), (o 8, .inl (dA 0, 100, .inl fW)), (o 9, .inl (dA 0, 100, .inl fP))] H ∧ va_D A [(o 0, .inr (2, mFs o th p0 q0 r0 mu (zP ln at_ er ea vs wn op_ bw bb bp uf wr_))), (o 5, .inl (dA 1, 2640, .inr (.inl fA))), (o 6, .inl (dA 1, 32, .inr (.inl fM))), (o 7, .inl (dA 2, 200, .inl fT)), (o 8, .inl (dA 0, 100, .inl fW)), (o 9, .inl (dA 0, 100, .inl fP))])) (va_Qv (S := PU) (fun u => COp fA (evP (tx fT) ln p0 q0 r0 Ms bp) u) (B1 (dC, dI) A (fun u => [(o 0, .inr (2, mFs o th p0 q0 r0 u.mu (zP ln u.at_ u.er u.ea u.vs u.wn u.op u.bw u.bb u.bp u.uf wr_))), (o 5, .inl (dA 1, 2640, .inr (.inl u.fA))), (o 6, .inl (dA 1, 32, .inr (.inl u.fM))), (o 7, .inl (dA 2, 200, .inl fT)), (o 8, .inl (dA 0, 100, .inl u.fW)), (o 9, .inl (dA 0, 100, .inl u.fP))]) (fun _ _ => True)) A) 0 0 A := by
  refine Met.ofW (cc := cX7_computes) (maxL := 2) (ret := none) (by decide) rfl ?_
  intro p e s m args below meth c s₁ B hml hv
  obtain ⟨hav, hG, hsz, hP, hD⟩ := hv
  have hx := B.exec
  have hb := B.bytes
  have hr := B.returns
  have hts := atoms_spec (ws := (ws_ yX7_computes cX7_computes 2 none)) B.pre
  have hts : ∀ w ∈ lw_all, w.before _ s = true := fun w h => hts w (List.mem_cons_of_mem _ h)
  have hown : s.vm.findClass RX7 = some m.cls := findClass_of_methodNamed B.named
  have hlocks := B.notSynchronized
  have hK := hG.K Z
  subst hsz
  have hS : va_S A s.heap s.heap [] := va_S.rf
  have hl := lv_entry ([.ref (o 0)]) (n := 2) (Nat.le_of_ble_eq_true rfl)
  rw [show entryFrame m args 2 = entryFrame m ([.ref (o 0)] : List Value).toArray 2 from by rw [hav], lg_entry_eq]
  generalize (lg_sl ([.ref (o 0)]) ++ List.replicate (2 - (lg_sl ([.ref (o 0)])).length) Slot.unset).toArray = ls at hl ⊢
  have hl : lv_has ls 2 [(0, .ref (o 0))] := hl
  generalize hQe : MQ below _ _ s _ _ _ = Q
  change W p l e ({ frames := 11, cells := 0, slots := 0, locals := 660 } : Room) s m args below meth c s.heap [] 0 0 Q (F0 m 0 ls [])
  refine lv_aload_n hx hb dX7_computes_0 rfl (lv_at hl 0 rfl) ?_
  refine lv_iconst (v := nI 0) hx hb dX7_computes_1 (by decide) ?_
  refine va_put (D := (dC, dI)) (ci := 2) (v := .int (nI 0)) (ty := .int) (C := RX7) (T := TX7) (N := 27) hx hb hts in_X7 tyX7 tyX7_ok nmX7 hown hK hP hD hS 0 rfl rfl 13 (by decide) (hts _ q2019) (fun _ h9 => h9) rfl (by decide +kernel) rfl rfl (Nat.le_of_ble_eq_true rfl) dX7_computes_2 (fun H locs hP hD hS => ?_)
  have hP : va_P (dC, dI) vwCl [(o 0, .inr (2, mFs o th p0 q0 r0 mu (zP ln 0 er ea vs wn op_ bw bb bp uf wr_))), (o 5, .inl (dA 1, 2640, .inr (.inl fA))), (o 6, .inl (dA 1, 32, .inr (.inl fM))), (o 7, .inl (dA 2, 200, .inl fT)), (o 8, .inl (dA 0, 100, .inl fW)), (o 9, .inl (dA 0, 100, .inl fP))] H := hP
  have hD : va_D A [(o 0, .inr (2, mFs o th p0 q0 r0 mu (zP ln 0 er ea vs wn op_ bw bb bp uf wr_))), (o 5, .inl (dA 1, 2640, .inr (.inl fA))), (o 6, .inl (dA 1, 32, .inr (.inl fM))), (o 7, .inl (dA 2, 200, .inl fT)), (o 8, .inl (dA 0, 100, .inl fW)), (o 9, .inl (dA 0, 100, .inl fP))] := hD
  refine lv_aload_n hx hb dX7_computes_5 rfl (lv_at hl 0 rfl) ?_
  refine lv_iconst (v := nI 0) hx hb dX7_computes_6 (by decide) ?_
  refine va_put (D := (dC, dI)) (ci := 2) (v := .int (nI 0)) (ty := .int) (C := RX7) (T := TX7) (N := 27) hx hb hts in_X7 tyX7 tyX7_ok nmX7 hown hK hP hD hS 0 rfl rfl 14 (by decide) (hts _ q2020) (fun _ h9 => h9) rfl (by decide +kernel) rfl rfl (Nat.le_of_ble_eq_true rfl) dX7_computes_7 (fun H locs hP hD hS => ?_)
  have hP : va_P (dC, dI) vwCl [(o 0, .inr (2, mFs o th p0 q0 r0 mu (zP ln 0 (nI 0) ea vs wn op_ bw bb bp uf wr_))), (o 5, .inl (dA 1, 2640, .inr (.inl fA))), (o 6, .inl (dA 1, 32, .inr (.inl fM))), (o 7, .inl (dA 2, 200, .inl fT)), (o 8, .inl (dA 0, 100, .inl fW)), (o 9, .inl (dA 0, 100, .inl fP))] H := hP
  have hD : va_D A [(o 0, .inr (2, mFs o th p0 q0 r0 mu (zP ln 0 (nI 0) ea vs wn op_ bw bb bp uf wr_))), (o 5, .inl (dA 1, 2640, .inr (.inl fA))), (o 6, .inl (dA 1, 32, .inr (.inl fM))), (o 7, .inl (dA 2, 200, .inl fT)), (o 8, .inl (dA 0, 100, .inl fW)), (o 9, .inl (dA 0, 100, .inl fP))] := hD
  refine lv_aload_n hx hb dX7_computes_10 rfl (lv_at hl 0 rfl) ?_
  refine lv_iconst (v := (-1)) hx hb dX7_computes_11 (by decide) ?_
  refine va_put (D := (dC, dI)) (ci := 2) (v := .int (-1)) (ty := .int) (C := RX7) (T := TX7) (N := 27) hx hb hts in_X7 tyX7 tyX7_ok nmX7 hown hK hP hD hS 0 rfl rfl 15 (by decide) (hts _ q2021) (fun _ h9 => h9) rfl (by decide +kernel) rfl rfl (Nat.le_of_ble_eq_true rfl) dX7_computes_12 (fun H locs hP hD hS => ?_)
  have hP : va_P (dC, dI) vwCl [(o 0, .inr (2, mFs o th p0 q0 r0 mu (zP ln 0 (nI 0) (-1) vs wn op_ bw bb bp uf wr_))), (o 5, .inl (dA 1, 2640, .inr (.inl fA))), (o 6, .inl (dA 1, 32, .inr (.inl fM))), (o 7, .inl (dA 2, 200, .inl fT)), (o 8, .inl (dA 0, 100, .inl fW)), (o 9, .inl (dA 0, 100, .inl fP))] H := hP
  have hD : va_D A [(o 0, .inr (2, mFs o th p0 q0 r0 mu (zP ln 0 (nI 0) (-1) vs wn op_ bw bb bp uf wr_))), (o 5, .inl (dA 1, 2640, .inr (.inl fA))), (o 6, .inl (dA 1, 32, .inr (.inl fM))), (o 7, .inl (dA 2, 200, .inl fT)), (o 8, .inl (dA 0, 100, .inl fW)), (o 9, .inl (dA 0, 100, .inl fP))] := hD
  refine lv_aload_n hx hb dX7_computes_15 rfl (lv_at hl 0 rfl) ?_
  refine lv_iconst (v := nI 0) hx hb dX7_computes_16 (by decide) ?_
  refine va_put (D := (dC, dI)) (ci := 2) (v := .int (nI 0)) (ty := .int) (C := RX7) (T := TX7) (N := 27) hx hb hts in_X7 tyX7 tyX7_ok nmX7 hown hK hP hD hS 0 rfl rfl 16 (by decide) (hts _ q2022) (fun _ h9 => h9) rfl (by decide +kernel) rfl rfl (Nat.le_of_ble_eq_true rfl) dX7_computes_17 (fun H locs hP hD hS => ?_)
  have hP : va_P (dC, dI) vwCl [(o 0, .inr (2, mFs o th p0 q0 r0 mu (zP ln 0 (nI 0) (-1) 0 wn op_ bw bb bp uf wr_))), (o 5, .inl (dA 1, 2640, .inr (.inl fA))), (o 6, .inl (dA 1, 32, .inr (.inl fM))), (o 7, .inl (dA 2, 200, .inl fT)), (o 8, .inl (dA 0, 100, .inl fW)), (o 9, .inl (dA 0, 100, .inl fP))] H := hP
  have hD : va_D A [(o 0, .inr (2, mFs o th p0 q0 r0 mu (zP ln 0 (nI 0) (-1) 0 wn op_ bw bb bp uf wr_))), (o 5, .inl (dA 1, 2640, .inr (.inl fA))), (o 6, .inl (dA 1, 32, .inr (.inl fM))), (o 7, .inl (dA 2, 200, .inl fT)), (o 8, .inl (dA 0, 100, .inl fW)), (o 9, .inl (dA 0, 100, .inl fP))] := hD
  refine lv_aload_n hx hb dX7_computes_20 rfl (lv_at hl 0 rfl) ?_
  refine lv_iconst (v := nI 0) hx hb dX7_computes_21 (by decide) ?_
  refine va_put (D := (dC, dI)) (ci := 2) (v := .int (nI 0)) (ty := .int) (C := RX7) (T := TX7) (N := 27) hx hb hts in_X7 tyX7 tyX7_ok nmX7 hown hK hP hD hS 0 rfl rfl 19 (by decide) (hts _ q2025) (fun _ h9 => h9) rfl (by decide +kernel) rfl rfl (Nat.le_of_ble_eq_true rfl) dX7_computes_22 (fun H locs hP hD hS => ?_)
  have hP : va_P (dC, dI) vwCl [(o 0, .inr (2, mFs o th p0 q0 r0 mu (zP ln 0 (nI 0) (-1) 0 0 op_ bw bb bp uf wr_))), (o 5, .inl (dA 1, 2640, .inr (.inl fA))), (o 6, .inl (dA 1, 32, .inr (.inl fM))), (o 7, .inl (dA 2, 200, .inl fT)), (o 8, .inl (dA 0, 100, .inl fW)), (o 9, .inl (dA 0, 100, .inl fP))] H := hP
  have hD : va_D A [(o 0, .inr (2, mFs o th p0 q0 r0 mu (zP ln 0 (nI 0) (-1) 0 0 op_ bw bb bp uf wr_))), (o 5, .inl (dA 1, 2640, .inr (.inl fA))), (o 6, .inl (dA 1, 32, .inr (.inl fM))), (o 7, .inl (dA 2, 200, .inl fT)), (o 8, .inl (dA 0, 100, .inl fW)), (o 9, .inl (dA 0, 100, .inl fP))] := hD
  refine lv_aload_n hx hb dX7_computes_25 rfl (lv_at hl 0 rfl) ?_
  refine lv_iconst (v := nI 0) hx hb dX7_computes_26 (by decide) ?_
  refine va_put (D := (dC, dI)) (ci := 2) (v := .int (nI 0)) (ty := .int) (C := RX7) (T := TX7) (N := 27) hx hb hts in_X7 tyX7 tyX7_ok nmX7 hown hK hP hD hS 0 rfl rfl 20 (by decide) (hts _ q2026) (fun _ h9 => h9) rfl (by decide +kernel) rfl rfl (Nat.le_of_ble_eq_true rfl) dX7_computes_27 (fun H locs hP hD hS => ?_)
  have hP : va_P (dC, dI) vwCl [(o 0, .inr (2, mFs o th p0 q0 r0 mu (zP ln 0 (nI 0) (-1) 0 0 0 bw bb bp uf wr_))), (o 5, .inl (dA 1, 2640, .inr (.inl fA))), (o 6, .inl (dA 1, 32, .inr (.inl fM))), (o 7, .inl (dA 2, 200, .inl fT)), (o 8, .inl (dA 0, 100, .inl fW)), (o 9, .inl (dA 0, 100, .inl fP))] H := hP
  have hD : va_D A [(o 0, .inr (2, mFs o th p0 q0 r0 mu (zP ln 0 (nI 0) (-1) 0 0 0 bw bb bp uf wr_))), (o 5, .inl (dA 1, 2640, .inr (.inl fA))), (o 6, .inl (dA 1, 32, .inr (.inl fM))), (o 7, .inl (dA 2, 200, .inl fT)), (o 8, .inl (dA 0, 100, .inl fW)), (o 9, .inl (dA 0, 100, .inl fP))] := hD
  refine lv_aload_n hx hb dX7_computes_30 rfl (lv_at hl 0 rfl) ?_
  refine lv_iconst (v := (-1)) hx hb dX7_computes_31 (by decide) ?_
  refine va_put (D := (dC, dI)) (ci := 2) (v := .int (-1)) (ty := .int) (C := RX7) (T := TX7) (N := 27) hx hb hts in_X7 tyX7 tyX7_ok nmX7 hown hK hP hD hS 0 rfl rfl 24 (by decide) (hts _ q2030) (fun _ h9 => h9) rfl (by decide +kernel) rfl rfl (Nat.le_of_ble_eq_true rfl) dX7_computes_32 (fun H locs hP hD hS => ?_)
  have hP : va_P (dC, dI) vwCl [(o 0, .inr (2, mFs o th p0 q0 r0 mu (zP ln 0 (nI 0) (-1) 0 0 0 bw bb bp (-1) wr_))), (o 5, .inl (dA 1, 2640, .inr (.inl fA))), (o 6, .inl (dA 1, 32, .inr (.inl fM))), (o 7, .inl (dA 2, 200, .inl fT)), (o 8, .inl (dA 0, 100, .inl fW)), (o 9, .inl (dA 0, 100, .inl fP))] H := hP
  have hD : va_D A [(o 0, .inr (2, mFs o th p0 q0 r0 mu (zP ln 0 (nI 0) (-1) 0 0 0 bw bb bp (-1) wr_))), (o 5, .inl (dA 1, 2640, .inr (.inl fA))), (o 6, .inl (dA 1, 32, .inr (.inl fM))), (o 7, .inl (dA 2, 200, .inl fT)), (o 8, .inl (dA 0, 100, .inl fW)), (o 9, .inl (dA 0, 100, .inl fP))] := hD
  refine lv_aload_n hx hb dX7_computes_35 rfl (lv_at hl 0 rfl) ?_
  refine lv_iconst (v := nI 1) hx hb dX7_computes_36 (by decide) ?_
  refine va_put (D := (dC, dI)) (ci := 2) (v := .int (nI 1)) (ty := .boolean) (C := RX7) (T := TX7) (N := 27) hx hb hts in_X7 tyX7 tyX7_ok nmX7 hown hK hP hD hS 0 rfl rfl 21 (by decide) (hts _ q2027) (fun _ h9 => h9) rfl (by decide +kernel) rfl rfl (Nat.le_of_ble_eq_true rfl) dX7_computes_37 (fun H locs hP hD hS => ?_)
  have hP : va_P (dC, dI) vwCl [(o 0, .inr (2, mFs o th p0 q0 r0 mu (zP ln 0 (nI 0) (-1) 0 0 0 true bb bp (-1) wr_))), (o 5, .inl (dA 1, 2640, .inr (.inl fA))), (o 6, .inl (dA 1, 32, .inr (.inl fM))), (o 7, .inl (dA 2, 200, .inl fT)), (o 8, .inl (dA 0, 100, .inl fW)), (o 9, .inl (dA 0, 100, .inl fP))] H := hP
  have hD : va_D A [(o 0, .inr (2, mFs o th p0 q0 r0 mu (zP ln 0 (nI 0) (-1) 0 0 0 true bb bp (-1) wr_))), (o 5, .inl (dA 1, 2640, .inr (.inl fA))), (o 6, .inl (dA 1, 32, .inr (.inl fM))), (o 7, .inl (dA 2, 200, .inl fT)), (o 8, .inl (dA 0, 100, .inl fW)), (o 9, .inl (dA 0, 100, .inl fP))] := hD
  refine lv_aload_n hx hb dX7_computes_40 rfl (lv_at hl 0 rfl) ?_
  refine lv_iconst (v := nI 1) hx hb dX7_computes_41 (by decide) ?_
  refine va_put (D := (dC, dI)) (ci := 2) (v := .int (nI 1)) (ty := .boolean) (C := RX7) (T := TX7) (N := 27) hx hb hts in_X7 tyX7 tyX7_ok nmX7 hown hK hP hD hS 0 rfl rfl 22 (by decide) (hts _ q2028) (fun _ h9 => h9) rfl (by decide +kernel) rfl rfl (Nat.le_of_ble_eq_true rfl) dX7_computes_42 (fun H locs hP hD hS => ?_)
  have hP : va_P (dC, dI) vwCl [(o 0, .inr (2, mFs o th p0 q0 r0 mu (zP ln 0 (nI 0) (-1) 0 0 0 true true bp (-1) wr_))), (o 5, .inl (dA 1, 2640, .inr (.inl fA))), (o 6, .inl (dA 1, 32, .inr (.inl fM))), (o 7, .inl (dA 2, 200, .inl fT)), (o 8, .inl (dA 0, 100, .inl fW)), (o 9, .inl (dA 0, 100, .inl fP))] H := hP
  have hD : va_D A [(o 0, .inr (2, mFs o th p0 q0 r0 mu (zP ln 0 (nI 0) (-1) 0 0 0 true true bp (-1) wr_))), (o 5, .inl (dA 1, 2640, .inr (.inl fA))), (o 6, .inl (dA 1, 32, .inr (.inl fM))), (o 7, .inl (dA 2, 200, .inl fT)), (o 8, .inl (dA 0, 100, .inl fW)), (o 9, .inl (dA 0, 100, .inl fP))] := hD
  refine lv_iconst (v := nI 1) hx hb dX7_computes_45 (by decide) ?_
  refine lv_istore_n (lv' := [(1, .int (nI 1)), (0, .ref (o 0))]) hx hb dX7_computes_46 rfl hl (by decide) rfl (fun ls hl => ?_)
  have hl : lv_has ls 2 [(1, .int (nI 1)), (0, .ref (o 0))] := by rw [show nI 1 = nI 1 from rfl]; exact hl
  have hP : va_P (dC, dI) vwCl [(o 0, .inr (2, mFs o th p0 q0 r0 mu (zP ln 0 (nI 0) (-1) 0 0 0 true true bp (ufI none) wr_))), (o 5, .inl (dA 1, 2640, .inr (.inl fA))), (o 6, .inl (dA 1, 32, .inr (.inl fM))), (o 7, .inl (dA 2, 200, .inl fT)), (o 8, .inl (dA 0, 100, .inl fW)), (o 9, .inl (dA 0, 100, .inl fP))] H := hP
  have hD : va_D A [(o 0, .inr (2, mFs o th p0 q0 r0 mu (zP ln 0 (nI 0) (-1) 0 0 0 true true bp (ufI none) wr_))), (o 5, .inl (dA 1, 2640, .inr (.inl fA))), (o 6, .inl (dA 1, 32, .inr (.inl fM))), (o 7, .inl (dA 2, 200, .inl fT)), (o 8, .inl (dA 0, 100, .inl fW)), (o 9, .inl (dA 0, 100, .inl fP))] := hD
  have loop_1 : ∀ (n9_1 : Nat) (fA8 : Nat → Int64) (fM8 : Nat → Int64) (mu8 : Int64) (fW8 : Nat → Int32) (fP8 : Nat → Int32) (at8 : Nat) (er8 : Int32) (ea8 : Int32) (vs8 : Nat) (wn8 : Nat) (op8 : Nat) (bw8 : Bool) (bb8 : Bool) (bp8 : Bool) (uf8 : Int32) (R : PR) (f : Nat) (mo : Int32) (H : Heap) (locs : List Loc) (ls : Array Slot), f < n9_1 → (PUsr fA (-1) R mo (fA8, fM8, mu8, fW8, fP8, at8, er8, ea8, vs8, wn8, op8, bw8, bb8, bp8, uf8)) → (∀ x b, R = Sum.inr (x, b) → PI ln x) → (∀ x, R = Sum.inr (x, false) → x.ops = [] ∧ ∃ M, x.S = [M]) → (∀ c k, R = Sum.inl (c, k) → 1 ≤ c ∧ c < 100) → (∀ x, R = Sum.inr (x, true) → ln - x.at_ < f) → (runP (tx fT) ln p0 q0 r0 Ms f R = runP (tx fT) ln p0 q0 r0 Ms (ln + 1) (PR.go (0, true, true, bp, [], [], none))) → va_P (dC, dI) vwCl [(o 0, .inr (2, mFs o th p0 q0 r0 mu8 (zP ln at8 er8 ea8 vs8 wn8 op8 bw8 bb8 bp8 uf8 wr_))), (o 5, .inl (dA 1, 2640, .inr (.inl fA8))), (o 6, .inl (dA 1, 32, .inr (.inl fM8))), (o 7, .inl (dA 2, 200, .inl fT)), (o 8, .inl (dA 0, 100, .inl fW8)), (o 9, .inl (dA 0, 100, .inl fP8))] H → va_D A [(o 0, .inr (2, mFs o th p0 q0 r0 mu8 (zP ln at8 er8 ea8 vs8 wn8 op8 bw8 bb8 bp8 uf8 wr_))), (o 5, .inl (dA 1, 2640, .inr (.inl fA8))), (o 6, .inl (dA 1, 32, .inr (.inl fM8))), (o 7, .inl (dA 2, 200, .inl fT)), (o 8, .inl (dA 0, 100, .inl fW8)), (o 9, .inl (dA 0, 100, .inl fP8))] → va_S A s.heap H locs → lv_has ls 2 [(0, .ref (o 0)), (1, .int mo)] → W p l e ({ frames := 11, cells := 0, slots := 0, locals := 660 } : Room) s m args below meth c H locs 0 0 Q (F0 m 47 ls []) := by
    intro n9_1
    induction n9_1 with
    | zero => intro fA8 fM8 mu8 fW8 fP8 at8 er8 ea8 vs8 wn8 op8 bw8 bb8 bp8 uf8 R f mo H locs ls hm_1; exact absurd hm_1 (Nat.not_lt_zero _)
    | succ n9_1 ih_1 =>
      intro fA8 fM8 mu8 fW8 fP8 at8 er8 ea8 vs8 wn8 op8 bw8 bb8 bp8 uf8 R f mo H locs ls hm_1 hU hPI hFin hEr hf8 hrun hP hD hS hl
      refine lv_iload_n hx hb dX7_computes_47 rfl (lv_at hl 1 rfl) ?_
      rcases R with ⟨c8, k8⟩ | ⟨x8, _ | _⟩
      · obtain ⟨hmo, her, hea, hK8⟩ := hU
        have hmo : mo = nI 1 := hmo
        subst hmo
        obtain ⟨hc1, hc2⟩ := hEr c8 k8 rfl
        have her : er8 = nI c8 := her
        have hea : ea8 = nI k8 := hea
        subst her
        subst hea
        rw [runP_e] at hrun
        have hl : lv_has ls 2 [(0, .ref (o 0)), (1, .int (nI 1))] := by rw [show nI 1 = (nI 1) from rfl]; exact hl
        refine lv_if_eq (tgt := 80) hx hb dX7_computes_48 (by decide) (fun c_48 => ?_) (fun c_48 => ?_)
        · exact absurd c_48 (by decide)
        refine lv_aload_n hx hb dX7_computes_51 rfl (lv_at hl 0 rfl) ?_
        refine va_get (D := (dC, dI)) (ci := 2) (v := .int (nI c8)) (C := RX7) (T := TX7) (N := 27) hx hb hts in_X7 hown hK hP 0 rfl rfl 14 (by decide) (hts _ q2020) (fun _ h9 => h9) rfl dX7_computes_52 ?_
        refine lv_if_ne (tgt := 80) hx hb dX7_computes_55 (by decide) (fun c_55 => ?_) (fun c_55 => ?_)
        · have c_55 : ¬ c8 = 0 := fun h => c_55 ((nI_eq (a := c8) (b := 0) (by omega) (by omega)).mpr h)
          refine lv_aload_n hx hb dX7_computes_80 rfl (lv_at hl 0 rfl) ?_
          refine va_get (D := (dC, dI)) (ci := 2) (v := .int uf8) (C := RX7) (T := TX7) (N := 27) hx hb hts in_X7 hown hK hP 0 rfl rfl 24 (by decide) (hts _ q2030) (fun _ h9 => h9) rfl dX7_computes_81 ?_
          refine lv_iconst (v := (-1)) hx hb dX7_computes_84 (by decide) ?_
          refine lv_icmp_eq (tgt := 97) hx hb dX7_computes_85 (by decide) (fun c_85 => ?_) (fun c_85 => ?_)
          · subst hQe
            exact W.vret hx hb hr (fun tz ht hW => ⟨⟨(fA8, fM8, mu8, fW8, fP8, at8, nI c8, (nI k8), vs8, wn8, op8, bw8, bb8, bp8, uf8), rfl, COp.e (show evP (tx fT) ln p0 q0 r0 Ms bp = Sum.inl (c8, k8) from by unfold evP; rw [← hrun]; rfl) hc1 hc2 (rfl) (rfl) hK8, B1_at ht (hP.sub [0, 1, 2, 3, 4, 5] rfl) (hD.sub [0, 1, 2, 3, 4, 5] (by decide) rfl) trivial⟩, hS.F ht⟩) hS.2.2 dX7_computes_97
          · refine lv_aload_n hx hb dX7_computes_88 rfl (lv_at hl 0 rfl) ?_
            refine lv_iconst (v := nI 3) hx hb dX7_computes_89 (by decide) ?_
            refine lv_aload_n hx hb dX7_computes_90 rfl (lv_at hl 0 rfl) ?_
            refine va_get (D := (dC, dI)) (ci := 2) (v := .int uf8) (C := RX7) (T := TX7) (N := 27) hx hb hts in_X7 hown hK hP 0 rfl rfl 24 (by decide) (hts _ q2030) (fun _ h9 => h9) rfl dX7_computes_91 ?_
            have hF9 := va_free (wc := [(o 0, .inr (2, mFs o th p0 q0 r0 mu8 (zP ln at8 (nI c8) (nI k8) vs8 wn8 op8 bw8 bb8 bp8 uf8 wr_)))]) hD hS (fun q h => hA q h) [0] rfl
            refine c_v (wr := [(o 5, .inl (dA 1, 2640, .inr (.inl fA8))), (o 6, .inl (dA 1, 32, .inr (.inl fM8))), (o 7, .inl (dA 2, 200, .inl fT)), (o 8, .inl (dA 0, 100, .inl fW8)), (o 9, .inl (dA 0, 100, .inl fP8))]) (va_runV (As := [.int (nI 3), .int uf8]) (rest := []) ⟨hx, hb, hml, hown, hts⟩ (x7_fails Z (va_A [(o 0, .inr (2, mFs o th p0 q0 r0 mu8 (zP ln at8 (nI c8) (nI k8) vs8 wn8 op8 bw8 bb8 bp8 uf8 wr_)))] H.size) H.size (fun q h => Or.inr h) o th p0 q0 r0 mu8 ln at8 (nI c8) (nI k8) vs8 wn8 op8 bw8 bb8 bp8 uf8 wr_ (nI 3) uf8) (cwV 2 hts (lw_V q2458 q2460 qs84 q107 q2461) rfl rfl rfl (by decide +kernel) ⟨Nat.le_of_ble_eq_true rfl, Nat.le_of_ble_eq_true rfl⟩) (gP_V (va_recv hK hP (ci := 2) (q0 := 0) rfl rfl) hG hS (fun q _ h => hF9 q h) ⟨rfl, (hP.sub (ws' := [(o 0, .inr (2, mFs o th p0 q0 r0 mu8 (zP ln at8 (nI c8) (nI k8) vs8 wn8 op8 bw8 bb8 bp8 uf8 wr_)))]) [0] rfl), (hD.sub (ws' := [(o 0, .inr (2, mFs o th p0 q0 r0 mu8 (zP ln at8 (nI c8) (nI k8) vs8 wn8 op8 bw8 bb8 bp8 uf8 wr_)))]) [0] (by decide) rfl).self⟩) rfl rfl hl.1 rfl (lv_room (Nat.le_of_ble_eq_true rfl)) dX7_computes_94 ⟨by first | decide | omega, by first | decide | omega⟩) hP hD hS hA [0] [1, 2, 3, 4, 5] rfl rfl (by decide) (by decide) (fun u9 H locs hq hX hz hk hP hD hS => ?_)
            have hP : va_P (dC, dI) vwCl [(o 5, .inl (dA 1, 2640, .inr (.inl fA8))), (o 6, .inl (dA 1, 32, .inr (.inl fM8))), (o 7, .inl (dA 2, 200, .inl fT)), (o 8, .inl (dA 0, 100, .inl fW8)), (o 9, .inl (dA 0, 100, .inl fP8)), (o 0, .inr (2, mFs o th p0 q0 r0 mu8 (zP ln at8 ((flE (nI c8) (nI k8) (nI 3) uf8).1) ((flE (nI c8) (nI k8) (nI 3) uf8).2) vs8 wn8 op8 bw8 bb8 bp8 uf8 wr_)))] H := hP
            have hD : va_D A [(o 5, .inl (dA 1, 2640, .inr (.inl fA8))), (o 6, .inl (dA 1, 32, .inr (.inl fM8))), (o 7, .inl (dA 2, 200, .inl fT)), (o 8, .inl (dA 0, 100, .inl fW8)), (o 9, .inl (dA 0, 100, .inl fP8)), (o 0, .inr (2, mFs o th p0 q0 r0 mu8 (zP ln at8 ((flE (nI c8) (nI k8) (nI 3) uf8).1) ((flE (nI c8) (nI k8) (nI 3) uf8).2) vs8 wn8 op8 bw8 bb8 bp8 uf8 wr_)))] := hD
            subst hQe
            exact W.vret hx hb hr (fun tz ht hW => ⟨⟨(fA8, fM8, mu8, fW8, fP8, at8, (flE (nI c8) (nI k8) (nI 3) uf8).1, (flE (nI c8) (nI k8) (nI 3) uf8).2, vs8, wn8, op8, bw8, bb8, bp8, uf8), rfl, COp.e (show evP (tx fT) ln p0 q0 r0 Ms bp = Sum.inl (c8, k8) from by unfold evP; rw [← hrun]; rfl) hc1 hc2 (congrArg Prod.fst (if_neg (c := nI c8 = nI 0) (fun h => absurd (nI_inj2 (by omega) (by decide) h) (by omega)))) (congrArg Prod.snd (if_neg (c := nI c8 = nI 0) (fun h => absurd (nI_inj2 (by omega) (by decide) h) (by omega)))) hK8, B1_at ht (hP.sub [5, 0, 1, 2, 3, 4] rfl) (hD.sub [5, 0, 1, 2, 3, 4] (by decide) rfl) trivial⟩, hS.F ht⟩) hS.2.2 dX7_computes_97
        · have c_55 : c8 = 0 := (nI_eq (a := c8) (b := 0) (by omega) (by omega)).mp c_55
          exact absurd c_55 (by omega)
      · obtain ⟨a8, w8, g8, pl8, ops8, S8, u8⟩ := x8
        obtain ⟨hmo, ⟨he1, he2, he3, he4, he5, he6, he7, he8, he9, hO8, hT8, hK8⟩, hea⟩ := hU
        have hmo : mo = nI 0 := hmo
        subst hmo
        obtain rfl : er8 = nI 0 := he1
        obtain rfl : vs8 = S8.length := he3
        obtain rfl : wn8 = ops8.length := he4
        obtain rfl : op8 = opens ops8 := he5
        obtain rfl : uf8 = ufI u8 := he9
        obtain rfl : ea8 = (-1) := hea
        obtain rfl : at8 = a8 := he2
        obtain rfl : bw8 = w8 := he6
        obtain rfl : bb8 = g8 := he7
        obtain rfl : bp8 = pl8 := he8
        have hP : va_P (dC, dI) vwCl [(o 0, .inr (2, mFs o th p0 q0 r0 mu8 (zP ln at8 (nI 0) (-1) S8.length ops8.length (opens ops8) bw8 bb8 bp8 (ufI u8) wr_))), (o 5, .inl (dA 1, 2640, .inr (.inl fA8))), (o 6, .inl (dA 1, 32, .inr (.inl fM8))), (o 7, .inl (dA 2, 200, .inl fT)), (o 8, .inl (dA 0, 100, .inl fW8)), (o 9, .inl (dA 0, 100, .inl fP8))] H := hP
        have hD : va_D A [(o 0, .inr (2, mFs o th p0 q0 r0 mu8 (zP ln at8 (nI 0) (-1) S8.length ops8.length (opens ops8) bw8 bb8 bp8 (ufI u8) wr_))), (o 5, .inl (dA 1, 2640, .inr (.inl fA8))), (o 6, .inl (dA 1, 32, .inr (.inl fM8))), (o 7, .inl (dA 2, 200, .inl fT)), (o 8, .inl (dA 0, 100, .inl fW8)), (o 9, .inl (dA 0, 100, .inl fP8))] := hD
        have hl : lv_has ls 2 [(0, .ref (o 0)), (1, .int (nI 0))] := by rw [show nI 0 = (nI 0) from rfl]; exact hl
        obtain ⟨ho0, M8, hS8⟩ := hFin _ rfl
        obtain rfl : ops8 = [] := ho0
        obtain rfl : S8 = [M8] := hS8
        rw [runP_f] at hrun
        have hu8 := (hPI _ _ rfl).2.2.2.2.2.1
        refine lv_if_eq (tgt := 80) hx hb dX7_computes_48 (by decide) (fun c_48 => ?_) (fun c_48 => ?_)
        rotate_left
        · exact absurd (by decide) c_48
        refine lv_aload_n hx hb dX7_computes_80 rfl (lv_at hl 0 rfl) ?_
        refine va_get (D := (dC, dI)) (ci := 2) (v := .int (ufI u8)) (C := RX7) (T := TX7) (N := 27) hx hb hts in_X7 hown hK hP 0 rfl rfl 24 (by decide) (hts _ q2030) (fun _ h9 => h9) rfl dX7_computes_81 ?_
        refine lv_iconst (v := (-1)) hx hb dX7_computes_84 (by decide) ?_
        refine lv_icmp_eq (tgt := 97) hx hb dX7_computes_85 (by decide) (fun c_85 => ?_) (fun c_85 => ?_)
        · obtain rfl := ufI_n c_85 hu8
          subst hQe
          exact W.vret hx hb hr (fun tz ht hW => ⟨⟨(fA8, fM8, mu8, fW8, fP8, at8, nI 0, (-1), [M8].length, ([] : List (Nat × Nat)).length, (opens ([] : List (Nat × Nat))), bw8, bb8, bp8, ufI none), rfl, COp.g (show evP (tx fT) ln p0 q0 r0 Ms bp = Sum.inr M8 from by unfold evP; rw [← hrun]; rfl) rfl rfl hT8.1 hT8.2.1 hK8, B1_at ht (hP.sub [0, 1, 2, 3, 4, 5] rfl) (hD.sub [0, 1, 2, 3, 4, 5] (by decide) rfl) trivial⟩, hS.F ht⟩) hS.2.2 dX7_computes_97
        · obtain ⟨k8, rfl⟩ : ∃ k, u8 = some k := by
            cases u8 with
            | none => exact absurd rfl c_85
            | some k => exact ⟨k, rfl⟩
          refine lv_aload_n hx hb dX7_computes_88 rfl (lv_at hl 0 rfl) ?_
          refine lv_iconst (v := nI 3) hx hb dX7_computes_89 (by decide) ?_
          refine lv_aload_n hx hb dX7_computes_90 rfl (lv_at hl 0 rfl) ?_
          refine va_get (D := (dC, dI)) (ci := 2) (v := .int (ufI (some k8))) (C := RX7) (T := TX7) (N := 27) hx hb hts in_X7 hown hK hP 0 rfl rfl 24 (by decide) (hts _ q2030) (fun _ h9 => h9) rfl dX7_computes_91 ?_
          have hF9 := va_free (wc := [(o 0, .inr (2, mFs o th p0 q0 r0 mu8 (zP ln at8 (nI 0) (-1) ([M8].length) (([] : List (Nat × Nat)).length) (opens ([] : List (Nat × Nat))) bw8 bb8 bp8 (ufI (some k8)) wr_)))]) hD hS (fun q h => hA q h) [0] rfl
          refine c_v (wr := [(o 5, .inl (dA 1, 2640, .inr (.inl fA8))), (o 6, .inl (dA 1, 32, .inr (.inl fM8))), (o 7, .inl (dA 2, 200, .inl fT)), (o 8, .inl (dA 0, 100, .inl fW8)), (o 9, .inl (dA 0, 100, .inl fP8))]) (va_runV (As := [.int (nI 3), .int (ufI (some k8))]) (rest := []) ⟨hx, hb, hml, hown, hts⟩ (x7_fails Z (va_A [(o 0, .inr (2, mFs o th p0 q0 r0 mu8 (zP ln at8 (nI 0) (-1) ([M8].length) (([] : List (Nat × Nat)).length) (opens ([] : List (Nat × Nat))) bw8 bb8 bp8 (ufI (some k8)) wr_)))] H.size) H.size (fun q h => Or.inr h) o th p0 q0 r0 mu8 ln at8 (nI 0) (-1) ([M8].length) (([] : List (Nat × Nat)).length) (opens ([] : List (Nat × Nat))) bw8 bb8 bp8 (ufI (some k8)) wr_ (nI 3) (ufI (some k8))) (cwV 2 hts (lw_V q2458 q2460 qs84 q107 q2461) rfl rfl rfl (by decide +kernel) ⟨Nat.le_of_ble_eq_true rfl, Nat.le_of_ble_eq_true rfl⟩) (gP_V (va_recv hK hP (ci := 2) (q0 := 0) rfl rfl) hG hS (fun q _ h => hF9 q h) ⟨rfl, (hP.sub (ws' := [(o 0, .inr (2, mFs o th p0 q0 r0 mu8 (zP ln at8 (nI 0) (-1) ([M8].length) (([] : List (Nat × Nat)).length) (opens ([] : List (Nat × Nat))) bw8 bb8 bp8 (ufI (some k8)) wr_)))]) [0] rfl), (hD.sub (ws' := [(o 0, .inr (2, mFs o th p0 q0 r0 mu8 (zP ln at8 (nI 0) (-1) ([M8].length) (([] : List (Nat × Nat)).length) (opens ([] : List (Nat × Nat))) bw8 bb8 bp8 (ufI (some k8)) wr_)))]) [0] (by decide) rfl).self⟩) rfl rfl hl.1 rfl (lv_room (Nat.le_of_ble_eq_true rfl)) dX7_computes_94 ⟨by first | decide | omega, by first | decide | omega⟩) hP hD hS hA [0] [1, 2, 3, 4, 5] rfl rfl (by decide) (by decide) (fun u9 H locs hq hX hz hk hP hD hS => ?_)
          have hP : va_P (dC, dI) vwCl [(o 5, .inl (dA 1, 2640, .inr (.inl fA8))), (o 6, .inl (dA 1, 32, .inr (.inl fM8))), (o 7, .inl (dA 2, 200, .inl fT)), (o 8, .inl (dA 0, 100, .inl fW8)), (o 9, .inl (dA 0, 100, .inl fP8)), (o 0, .inr (2, mFs o th p0 q0 r0 mu8 (zP ln at8 (nI 3) (ufI (some k8)) ([M8].length) (([] : List (Nat × Nat)).length) (opens ([] : List (Nat × Nat))) bw8 bb8 bp8 (ufI (some k8)) wr_)))] H := hP
          have hD : va_D A [(o 5, .inl (dA 1, 2640, .inr (.inl fA8))), (o 6, .inl (dA 1, 32, .inr (.inl fM8))), (o 7, .inl (dA 2, 200, .inl fT)), (o 8, .inl (dA 0, 100, .inl fW8)), (o 9, .inl (dA 0, 100, .inl fP8)), (o 0, .inr (2, mFs o th p0 q0 r0 mu8 (zP ln at8 (nI 3) (ufI (some k8)) ([M8].length) (([] : List (Nat × Nat)).length) (opens ([] : List (Nat × Nat))) bw8 bb8 bp8 (ufI (some k8)) wr_)))] := hD
          subst hQe
          exact W.vret hx hb hr (fun tz ht hW => ⟨⟨(fA8, fM8, mu8, fW8, fP8, at8, nI 3, ufI (some k8), [M8].length, ([] : List (Nat × Nat)).length, (opens ([] : List (Nat × Nat))), bw8, bb8, bp8, ufI (some k8)), rfl, COp.e (show evP (tx fT) ln p0 q0 r0 Ms bp = Sum.inl (3, k8) from by unfold evP; rw [← hrun]; rfl) (by decide) (by decide) rfl rfl hK8, B1_at ht (hP.sub [5, 0, 1, 2, 3, 4] rfl) (hD.sub [5, 0, 1, 2, 3, 4] (by decide) rfl) trivial⟩, hS.F ht⟩) hS.2.2 dX7_computes_97
      · obtain ⟨a8, w8, g8, pl8, ops8, S8, u8⟩ := x8
        obtain ⟨hmo, ⟨he1, he2, he3, he4, he5, he6, he7, he8, he9, hO8, hT8, hK8⟩, hea⟩ := hU
        have hmo : mo = nI 1 := hmo
        subst hmo
        obtain rfl : er8 = nI 0 := he1
        obtain rfl : vs8 = S8.length := he3
        obtain rfl : wn8 = ops8.length := he4
        obtain rfl : op8 = opens ops8 := he5
        obtain rfl : uf8 = ufI u8 := he9
        obtain rfl : ea8 = (-1) := hea
        obtain rfl : at8 = a8 := he2
        obtain rfl : bw8 = w8 := he6
        obtain rfl : bb8 = g8 := he7
        obtain rfl : bp8 = pl8 := he8
        have hP : va_P (dC, dI) vwCl [(o 0, .inr (2, mFs o th p0 q0 r0 mu8 (zP ln at8 (nI 0) (-1) S8.length ops8.length (opens ops8) bw8 bb8 bp8 (ufI u8) wr_))), (o 5, .inl (dA 1, 2640, .inr (.inl fA8))), (o 6, .inl (dA 1, 32, .inr (.inl fM8))), (o 7, .inl (dA 2, 200, .inl fT)), (o 8, .inl (dA 0, 100, .inl fW8)), (o 9, .inl (dA 0, 100, .inl fP8))] H := hP
        have hD : va_D A [(o 0, .inr (2, mFs o th p0 q0 r0 mu8 (zP ln at8 (nI 0) (-1) S8.length ops8.length (opens ops8) bw8 bb8 bp8 (ufI u8) wr_))), (o 5, .inl (dA 1, 2640, .inr (.inl fA8))), (o 6, .inl (dA 1, 32, .inr (.inl fM8))), (o 7, .inl (dA 2, 200, .inl fT)), (o 8, .inl (dA 0, 100, .inl fW8)), (o 9, .inl (dA 0, 100, .inl fP8))] := hD
        have hl : lv_has ls 2 [(0, .ref (o 0)), (1, .int (nI 1))] := by rw [show nI 1 = (nI 1) from rfl]; exact hl
        have hI8 := hPI _ _ rfl
        have hf7 : ln - at8 < f := hf8 _ rfl
        obtain ⟨f9, rfl⟩ : ∃ g, f = g + 1 := ⟨f - 1, by omega⟩
        have hRR : ∀ k, k < 8 → Hold fA8 k (Ms k) := fun k hk => hK8.hold (show k < 24 by omega) (hR k hk)
        refine lv_if_eq (tgt := 80) hx hb dX7_computes_48 (by decide) (fun c_48 => ?_) (fun c_48 => ?_)
        · exact absurd c_48 (by decide)
        refine lv_aload_n hx hb dX7_computes_51 rfl (lv_at hl 0 rfl) ?_
        refine va_get (D := (dC, dI)) (ci := 2) (v := .int (nI 0)) (C := RX7) (T := TX7) (N := 27) hx hb hts in_X7 hown hK hP 0 rfl rfl 14 (by decide) (hts _ q2020) (fun _ h9 => h9) rfl dX7_computes_52 ?_
        refine lv_if_ne (tgt := 80) hx hb dX7_computes_55 (by decide) (fun c_55 => ?_) (fun c_55 => ?_)
        · exact absurd (by decide) c_55
        refine lv_aload_n hx hb dX7_computes_58 rfl (lv_at hl 0 rfl) ?_
        refine va_get (D := (dC, dI)) (ci := 2) (v := .int (bI bw8)) (C := RX7) (T := TX7) (N := 27) hx hb hts in_X7 hown hK hP 0 rfl rfl 21 (by decide) (hts _ q2027) (fun _ h9 => h9) rfl dX7_computes_59 ?_
        refine lv_if_eq (tgt := 72) hx hb dX7_computes_62 (by decide) (fun c_62 => ?_) (fun c_62 => ?_)
        · obtain rfl : false = bw8 := (bI_0 c_62).symm
          obtain rfl : false = bb8 := by
            cases bb8 with
            | false => rfl
            | true => exact Bool.noConfusion (hI8.2.2.2.2.1 rfl).1
          refine lv_aload_n hx hb dX7_computes_72 rfl (lv_at hl 0 rfl) ?_
          have hF9 := va_free (wc := [(o 0, .inr (2, mFs o th p0 q0 r0 mu8 (zP ln at8 (nI 0) (-1) S8.length ops8.length (opens ops8) false false bp8 (ufI u8) wr_))), (o 5, .inl (dA 1, 2640, .inr (.inl fA8))), (o 6, .inl (dA 1, 32, .inr (.inl fM8))), (o 7, .inl (dA 2, 200, .inl fT)), (o 8, .inl (dA 0, 100, .inl fW8)), (o 9, .inl (dA 0, 100, .inl fP8))]) hD hS (fun q h => hA q h) [0, 1, 2, 3, 4, 5] rfl
          refine c_i (wr := []) (va_runV (As := []) (rest := []) ⟨hx, hb, hml, hown, hts⟩ (x7_readsBehind Z (va_A [(o 0, .inr (2, mFs o th p0 q0 r0 mu8 (zP ln at8 (nI 0) (-1) S8.length ops8.length (opens ops8) false false bp8 (ufI u8) wr_))), (o 5, .inl (dA 1, 2640, .inr (.inl fA8))), (o 6, .inl (dA 1, 32, .inr (.inl fM8))), (o 7, .inl (dA 2, 200, .inl fT)), (o 8, .inl (dA 0, 100, .inl fW8)), (o 9, .inl (dA 0, 100, .inl fP8))] H.size) H.size (fun q h => Or.inr h) o th p0 q0 r0 mu8 ln at8 (nI 0) (-1) bp8 wr_ fT fA8 fM8 fW8 fP8 ops8 S8 u8 hn hl9 hO8 hT8 hI8) (cwV 0 hts (lw_V q2470 q2472 qs87 q107 q2473) rfl rfl rfl (by decide +kernel) ⟨Nat.le_of_ble_eq_true rfl, Nat.le_of_ble_eq_true rfl⟩) (gP_V (va_recv hK hP (ci := 2) (q0 := 0) rfl rfl) hG hS (fun q _ h => hF9 q h) ⟨rfl, (hP.sub (ws' := [(o 0, .inr (2, mFs o th p0 q0 r0 mu8 (zP ln at8 (nI 0) (-1) S8.length ops8.length (opens ops8) false false bp8 (ufI u8) wr_))), (o 5, .inl (dA 1, 2640, .inr (.inl fA8))), (o 6, .inl (dA 1, 32, .inr (.inl fM8))), (o 7, .inl (dA 2, 200, .inl fT)), (o 8, .inl (dA 0, 100, .inl fW8)), (o 9, .inl (dA 0, 100, .inl fP8))]) [0, 1, 2, 3, 4, 5] rfl), (hD.sub (ws' := [(o 0, .inr (2, mFs o th p0 q0 r0 mu8 (zP ln at8 (nI 0) (-1) S8.length ops8.length (opens ops8) false false bp8 (ufI u8) wr_))), (o 5, .inl (dA 1, 2640, .inr (.inl fA8))), (o 6, .inl (dA 1, 32, .inr (.inl fM8))), (o 7, .inl (dA 2, 200, .inl fT)), (o 8, .inl (dA 0, 100, .inl fW8)), (o 9, .inl (dA 0, 100, .inl fP8))]) [0, 1, 2, 3, 4, 5] (by decide) rfl).self⟩) rfl rfl hl.1 rfl (lv_room (Nat.le_of_ble_eq_true rfl)) dX7_computes_73 ⟨by first | decide | omega, by first | decide | omega⟩) hP hD hS hA [0, 1, 2, 3, 4, 5] [] rfl rfl (by decide) (by decide) (fun r9 u9 H locs hq hX hz hk hP hD hS => ?_)
          obtain ⟨fA_2, fM_2, mu_2, fW_2, fP_2, at_2, er_2, ea_2, vs_2, wn_2, op_2, bw_2, bb_2, bp_2, uf_2⟩ := u9
          obtain ⟨r_3, rfl⟩ : ∃ z, z = r9 := ⟨_, rfl⟩
          have hq_4 := hq
          have hP : va_P (dC, dI) vwCl [(o 0, .inr (2, mFs o th p0 q0 r0 mu_2 (zP ln at_2 er_2 ea_2 vs_2 wn_2 op_2 bw_2 bb_2 bp_2 uf_2 wr_))), (o 5, .inl (dA 1, 2640, .inr (.inl fA_2))), (o 6, .inl (dA 1, 32, .inr (.inl fM_2))), (o 7, .inl (dA 2, 200, .inl fT)), (o 8, .inl (dA 0, 100, .inl fW_2)), (o 9, .inl (dA 0, 100, .inl fP_2))] H := hP
          have hD : va_D A [(o 0, .inr (2, mFs o th p0 q0 r0 mu_2 (zP ln at_2 er_2 ea_2 vs_2 wn_2 op_2 bw_2 bb_2 bp_2 uf_2 wr_))), (o 5, .inl (dA 1, 2640, .inr (.inl fA_2))), (o 6, .inl (dA 1, 32, .inr (.inl fM_2))), (o 7, .inl (dA 2, 200, .inl fT)), (o 8, .inl (dA 0, 100, .inl fW_2)), (o 9, .inl (dA 0, 100, .inl fP_2))] := hD
          refine lv_istore_n (lv' := [(1, .int r_3), (0, .ref (o 0))]) hx hb dX7_computes_76 rfl hl (by decide) rfl (fun ls hl => ?_)
          refine lv_goto (tgt := 47) hx hb dX7_computes_77 (by decide) ?_
          exact ih_1 fA_2 fM_2 mu_2 fW_2 fP_2 at_2 er_2 ea_2 vs_2 wn_2 op_2 bw_2 bb_2 bp_2 uf_2 (stB (tx fT) ln p0 q0 r0 (at8, false, false, bp8, ops8, S8, u8)) f9 r_3 H locs ls ((Nat.lt_of_succ_lt_succ (show f9 + 1 < _ from by assumption))) (⟨hq_4.1, PUst.tr hK8 hq_4.2⟩) (fun x b e => (stB_PI hn hl9 hI8 rfl e).1) (fun x e => (stB_PI hn hl9 hI8 rfl e).2.2 rfl) (fun c k e => stB_er e) (fun x e => by have := (stB_PI hn hl9 hI8 rfl e).2.1 rfl; have h2 : at8 < x.at_ := this.2; have h3 : at8 < ln := this.1; omega) hrun (hP.sub [0, 1, 2, 3, 4, 5] rfl) (hD.sub [0, 1, 2, 3, 4, 5] (by decide) rfl) hS (lv_sub hl [1, 0] rfl)
        · obtain rfl : true = bw8 := (bI_1 c_62).symm
          refine lv_aload_n hx hb dX7_computes_65 rfl (lv_at hl 0 rfl) ?_
          have hF9 := va_free (wc := [(o 0, .inr (2, mFs o th p0 q0 r0 mu8 (zP ln at8 (nI 0) (-1) S8.length ops8.length (opens ops8) true bb8 bp8 (ufI u8) wr_))), (o 5, .inl (dA 1, 2640, .inr (.inl fA8))), (o 6, .inl (dA 1, 32, .inr (.inl fM8))), (o 7, .inl (dA 2, 200, .inl fT)), (o 8, .inl (dA 0, 100, .inl fW8)), (o 9, .inl (dA 0, 100, .inl fP8))]) hD hS (fun q h => hA q h) [0, 1, 2, 3, 4, 5] rfl
          refine c_v (wr := []) (va_runV (As := []) (rest := []) ⟨hx, hb, hml, hown, hts⟩ (x7_readsOperand Z (va_A [(o 0, .inr (2, mFs o th p0 q0 r0 mu8 (zP ln at8 (nI 0) (-1) S8.length ops8.length (opens ops8) true bb8 bp8 (ufI u8) wr_))), (o 5, .inl (dA 1, 2640, .inr (.inl fA8))), (o 6, .inl (dA 1, 32, .inr (.inl fM8))), (o 7, .inl (dA 2, 200, .inl fT)), (o 8, .inl (dA 0, 100, .inl fW8)), (o 9, .inl (dA 0, 100, .inl fP8))] H.size) H.size (fun q h => Or.inr h) o th p0 q0 r0 mu8 ln at8 (nI 0) (-1) bb8 bp8 wr_ fT fA8 fM8 fW8 fP8 ops8 S8 u8 Ms hn hl9 hRR sR hO8 hT8 hI8) (cwV 0 hts (lw_V q2430 q2432 qs77 q107 q2433) rfl rfl rfl (by decide +kernel) ⟨Nat.le_of_ble_eq_true rfl, Nat.le_of_ble_eq_true rfl⟩) (gP_V (va_recv hK hP (ci := 2) (q0 := 0) rfl rfl) hG hS (fun q _ h => hF9 q h) ⟨rfl, (hP.sub (ws' := [(o 0, .inr (2, mFs o th p0 q0 r0 mu8 (zP ln at8 (nI 0) (-1) S8.length ops8.length (opens ops8) true bb8 bp8 (ufI u8) wr_))), (o 5, .inl (dA 1, 2640, .inr (.inl fA8))), (o 6, .inl (dA 1, 32, .inr (.inl fM8))), (o 7, .inl (dA 2, 200, .inl fT)), (o 8, .inl (dA 0, 100, .inl fW8)), (o 9, .inl (dA 0, 100, .inl fP8))]) [0, 1, 2, 3, 4, 5] rfl), (hD.sub (ws' := [(o 0, .inr (2, mFs o th p0 q0 r0 mu8 (zP ln at8 (nI 0) (-1) S8.length ops8.length (opens ops8) true bb8 bp8 (ufI u8) wr_))), (o 5, .inl (dA 1, 2640, .inr (.inl fA8))), (o 6, .inl (dA 1, 32, .inr (.inl fM8))), (o 7, .inl (dA 2, 200, .inl fT)), (o 8, .inl (dA 0, 100, .inl fW8)), (o 9, .inl (dA 0, 100, .inl fP8))]) [0, 1, 2, 3, 4, 5] (by decide) rfl).self⟩) rfl rfl hl.1 rfl (lv_room (Nat.le_of_ble_eq_true rfl)) dX7_computes_66 ⟨by first | decide | omega, by first | decide | omega⟩) hP hD hS hA [0, 1, 2, 3, 4, 5] [] rfl rfl (by decide) (by decide) (fun u9 H locs hq hX hz hk hP hD hS => ?_)
          obtain ⟨fA_5, fM_5, mu_5, fW_5, fP_5, at_5, er_5, ea_5, vs_5, wn_5, op_5, bw_5, bb_5, bp_5, uf_5⟩ := u9
          have hq_6 := hq
          have hP : va_P (dC, dI) vwCl [(o 0, .inr (2, mFs o th p0 q0 r0 mu_5 (zP ln at_5 er_5 ea_5 vs_5 wn_5 op_5 bw_5 bb_5 bp_5 uf_5 wr_))), (o 5, .inl (dA 1, 2640, .inr (.inl fA_5))), (o 6, .inl (dA 1, 32, .inr (.inl fM_5))), (o 7, .inl (dA 2, 200, .inl fT)), (o 8, .inl (dA 0, 100, .inl fW_5)), (o 9, .inl (dA 0, 100, .inl fP_5))] H := hP
          have hD : va_D A [(o 0, .inr (2, mFs o th p0 q0 r0 mu_5 (zP ln at_5 er_5 ea_5 vs_5 wn_5 op_5 bw_5 bb_5 bp_5 uf_5 wr_))), (o 5, .inl (dA 1, 2640, .inr (.inl fA_5))), (o 6, .inl (dA 1, 32, .inr (.inl fM_5))), (o 7, .inl (dA 2, 200, .inl fT)), (o 8, .inl (dA 0, 100, .inl fW_5)), (o 9, .inl (dA 0, 100, .inl fP_5))] := hD
          refine lv_goto (tgt := 47) hx hb dX7_computes_69 (by decide) ?_
          exact ih_1 fA_5 fM_5 mu_5 fW_5 fP_5 at_5 er_5 ea_5 vs_5 wn_5 op_5 bw_5 bb_5 bp_5 uf_5 (stO (tx fT) ln p0 q0 r0 Ms (at8, true, bb8, bp8, ops8, S8, u8)) f9 (nI 1) H locs ls ((Nat.lt_of_succ_lt_succ (show f9 + 1 < _ from by assumption))) (⟨(stO_r hl9 sR hI8 rfl).symm, PUst.tr hK8 hq_6⟩) (fun x b e => (stO_PI hl9 sR hI8 rfl e).1) (fun x e => Bool.noConfusion (stO_PI hl9 sR hI8 rfl e).2.1) (fun c k e => stO_er e) (fun x e => by have := (stO_PI hl9 sR hI8 rfl e).2.2; have h2 : at8 < x.at_ := this.2; have h3 : at8 < ln := this.1; omega) hrun (hP.sub [0, 1, 2, 3, 4, 5] rfl) (hD.sub [0, 1, 2, 3, 4, 5] (by decide) rfl) hS (lv_sub hl [0, 1] rfl)
  exact loop_1 _ fA fM mu fW fP 0 (nI 0) (-1) 0 0 0 true true bp (ufI none) (PR.go (0, true, true, bp, [], [], none)) (ln + 1) (nI 1) H locs ls (Nat.lt_succ_self _) (⟨rfl, PUst.g rfl ⟨rfl, rfl, rfl, rfl, rfl, rfl, rfl, rfl, rfl, trivial, trivial, (fun k9 hk9 i9 hi9 => rfl)⟩ rfl⟩) (PI_0 (by omega)) (fun x e => by cases e) (fun c k e => by cases e) (fun x e => by cases e; show ln - 0 < ln + 1; omega) rfl hP hD hS (lv_sub hl [1, 0] rfl)
