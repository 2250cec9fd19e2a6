/-- what the text's calls answer: code, answer; length; text -/
def apS (ln : Nat) (fT : Nat → Int32) (x : Int32) : IX × Nat × (Nat → Int32) := if ln + 4 ≤ 200 then ((nI 0, nI (ln + 4)), ln + 4, txA fT ln x) else ((nI 1, nI 0), ln, fT)
def trX (ln : Nat) (i : Int32) : IX × Nat := if inB i (nI 0) (nI ln) = true then ((nI 0, i), i.toNatClampNeg) else ((nI 1, nI 0), ln)
def updN {α : Type} (f : Nat → α) (k : Nat) (x : α) : Nat → α := fun j => if j = k then x else f j
theorem updN_I (f : Nat → Nat) (k x : Nat) : upd (fun j => nI (f j)) k (nI x) = fun j => nI (updN f k x j) := by
  funext j
  by_cases h : j = k
  · subst h; rw [pk_us]; unfold updN; rw [if_pos rfl]
  · rw [pk_un h]; unfold updN; rw [if_neg h]
theorem updB_I (f : Nat → Bool) (k : Nat) (x : Int32) (hx : x = nI 1 := by rfl) : upd (fun j => bI (f j)) k x = fun j => bI (updN f k true j) := by
  subst hx
  funext j
  by_cases h : j = k
  · subst h; rw [pk_us]; unfold updN; rw [if_pos rfl]; rfl
  · rw [pk_un h]; unfold updN; rw [if_neg h]
theorem inB_lo {v : Int32} {m : Nat} (hm : m < 2 ^ 31) (h : inB v (nI 1) (nI m) = true) : inB v (nI 0) (nI m) = true := by
  unfold inB at *
  rw [Bool.and_eq_true, decide_eq_true_iff, decide_eq_true_iff] at *
  exact ⟨Int32.le_trans (by decide) h.1, h.2⟩
theorem inB_ge {a m : Nat} (ha : a < 2 ^ 31) (hm : m < 2 ^ 31) (h : inB (nI a) (nI 1) (nI m) = true) : 1 ≤ a := by
  unfold inB at h
  rw [Bool.and_eq_true, decide_eq_true_iff, decide_eq_true_iff] at h
  exact (nI_leI (by decide) ha).mp h.1
theorem nI_inj2 {a b : Nat} (ha : a < 2 ^ 31) (hb : b < 2 ^ 31) (h : nI a = nI b) : a = b := (nI_eq ha hb).mp h
theorem sv_E {fA fB : Nat → Int64} {ji k : Nat} (hk : k < 8) (hj : ji ≤ 1) (hE : ∀ j, j < k → ∀ i, i < 33 → fB (33 * (8 + 8 * ji + j) + i) = fA (33 * j + i)) (hF : Kp fA fB (fun j => j < 8 + 8 * ji ∨ 16 + 8 * ji ≤ j)) : ∀ j, j < k + 1 → ∀ i, i < 33 → cpS fB k (8 + 8 * ji + k) (33 * (8 + 8 * ji + j) + i) = fA (33 * j + i) := fun j hj2 i hi => by
  unfold cpS
  by_cases e : j = k
  · subst e
    rw [wr_at hi]; exact hF j (Or.inl (by omega)) i hi
  · rw [wr_out (by omega)]; exact hE j (by omega) i hi
theorem sv_F {fA fB : Nat → Int64} {ji k : Nat} (hk : k < 8) (hF : Kp fA fB (fun j => j < 8 + 8 * ji ∨ 16 + 8 * ji ≤ j)) : Kp fA (cpS fB k (8 + 8 * ji + k)) (fun j => j < 8 + 8 * ji ∨ 16 + 8 * ji ≤ j) := fun j hj i hi => by
  have hj : j < 8 + 8 * ji ∨ 16 + 8 * ji ≤ j := hj
  unfold cpS
  rw [wr_out (by omega)]; exact hF j hj i hi
theorem rs_E {fA fB : Nat → Int64} {ji k : Nat} (hk : k < 8) (hj : ji ≤ 1) (hE : ∀ j, j < k → ∀ i, i < 33 → fB (33 * j + i) = fA (33 * (8 + 8 * ji + j) + i)) (hF : Kp fA fB (fun j => 8 ≤ j)) : ∀ j, j < k + 1 → ∀ i, i < 33 → cpS fB (8 + 8 * ji + k) k (33 * j + i) = fA (33 * (8 + 8 * ji + j) + i) := fun j hj2 i hi => by
  unfold cpS
  by_cases e : j = k
  · subst e
    rw [wr_at hi]; exact hF _ (show 8 ≤ 8 + 8 * ji + j by omega) i hi
  · rw [wr_out (by omega)]; exact hE j (by omega) i hi
theorem rs_F {fA fB : Nat → Int64} {ji k : Nat} (hk : k < 8) (hF : Kp fA fB (fun j => 8 ≤ j)) : Kp fA (cpS fB (8 + 8 * ji + k) k) (fun j => 8 ≤ j) := fun j hj i hi => by
  have hj : 8 ≤ j := hj
  unfold cpS
  rw [wr_out (by omega)]; exact hF j hj i hi
set_option maxHeartbeats 4000000 in
theorem x7_errorCode {l : Launch} {dC : Nat → ClassId} {dI : Nat → Nat → Nat} {dA : Nat → ClassId} {s0 : State} {b0 : Addr} (Z : Z0 l dC dI dA s0 b0) (A : Nat → Prop) (sz : Nat) (hA : ∀ q : Nat, sz ≤ q → A q) (o : Nat → Nat) (th : Int32) (p0 q0 r0 : Nat) (mu : Int64) (ln at_ : Nat) (er ea : Int32) (vs wn op_ : Nat) (bw bb bp : Bool) (uf : Int32) (wr_ : Nat) : Met l yX7_errorCode (ws_ yX7_errorCode cX7_errorCode 1 (some .int)) ({ frames := 1, cells := 0, slots := 0, locals := 60 } : Room) (gP [.ref (o 0)] s0 A (fun H => H.size = sz ∧ va_P (dC, dI) vwCl [(o 0, .inr (2, mFs o th p0 q0 r0 mu (zP ln at_ er ea vs wn op_ bw bb bp uf wr_)))] H ∧ va_D A [(o 0, .inr (2, mFs o th p0 q0 r0 mu (zP ln at_ er ea vs wn op_ bw bb bp uf wr_)))])) (va_Qi (S := Unit) (fun r _ => r = er) (B1 (dC, dI) A (fun _ => [(o 0, .inr (2, mFs o (nI 0) p0 q0 r0 mu (zP ln at_ er ea vs wn op_ bw bb bp uf wr_)))]) (fun _ _ => True)) A) 0 0 A := by
  refine Met.ofW (cc := cX7_errorCode) (maxL := 1) (ret := (some .int)) (by decide) rfl ?_
  intro p e s m args below meth c s₁ B hml hv
  obtain ⟨hav, hG, hsz, hP, hD⟩ := hv
  have hx := B.exec
  have hb := B.bytes
  have hr := B.returns
  have hts := atoms_spec (ws := (ws_ yX7_errorCode cX7_errorCode 1 (some .int))) B.pre
  have hts : ∀ w ∈ lw_all, w.before _ s = true := fun w h => hts w (List.mem_cons_of_mem _ h)
  have hown : s.vm.findClass RX7 = some m.cls := findClass_of_methodNamed B.named
  have hlocks := B.notSynchronized
  have hK := hG.K Z
  subst hsz
  have hS : va_S A s.heap s.heap [] := va_S.rf
  have hl := lv_entry ([.ref (o 0)]) (n := 1) (Nat.le_of_ble_eq_true rfl)
  rw [show entryFrame m args 1 = entryFrame m ([.ref (o 0)] : List Value).toArray 1 from by rw [hav], lg_entry_eq]
  generalize (lg_sl ([.ref (o 0)]) ++ List.replicate (1 - (lg_sl ([.ref (o 0)])).length) Slot.unset).toArray = ls at hl ⊢
  have hl : lv_has ls 1 [(0, .ref (o 0))] := hl
  generalize hQe : MQ below _ _ s _ _ _ = Q
  change W p l e ({ frames := 1, cells := 0, slots := 0, locals := 60 } : Room) s m args below meth c s.heap [] 0 0 Q (F0 m 0 ls [])
  refine lv_aload_n hx hb dX7_errorCode_0 rfl (lv_at hl 0 rfl) ?_
  refine lv_iconst (v := nI 0) hx hb dX7_errorCode_1 (by decide) ?_
  refine va_put (D := (dC, dI)) (ci := 2) (v := .int (nI 0)) (ty := .int) (C := RX7) (T := TX7) (N := 27) hx hb hts in_X7 tyX7 tyX7_ok nmX7 hown hK hP hD hS 0 rfl rfl 0 (by decide) (hts _ q2006) (fun _ h9 => h9) rfl (by decide +kernel) rfl rfl (Nat.le_of_ble_eq_true rfl) dX7_errorCode_2 (fun H locs hP hD hS => ?_)
  have hP : va_P (dC, dI) vwCl [(o 0, .inr (2, mFs o (nI 0) p0 q0 r0 mu (zP ln at_ er ea vs wn op_ bw bb bp uf wr_)))] H := hP
  have hD : va_D A [(o 0, .inr (2, mFs o (nI 0) p0 q0 r0 mu (zP ln at_ er ea vs wn op_ bw bb bp uf wr_)))] := hD
  refine lv_aload_n hx hb dX7_errorCode_5 rfl (lv_at hl 0 rfl) ?_
  refine va_get (D := (dC, dI)) (ci := 2) (v := .int er) (C := RX7) (T := TX7) (N := 27) hx hb hts in_X7 hown hK hP 0 rfl rfl 14 (by decide) (hts _ q2020) (fun _ h9 => h9) rfl dX7_errorCode_6 ?_
  subst hQe
  exact W.iret (v := er) hx hb hr (fun tz ht hW => ⟨⟨_, (), rfl, rfl, B1_at ht (hP.sub [0] rfl) (hD.sub [0] (by decide) rfl) trivial⟩, hS.F ht⟩) hS.2.2 dX7_errorCode_9
set_option maxHeartbeats 4000000 in
theorem x7_errorPosition {l : Launch} {dC : Nat → ClassId} {dI : Nat → Nat → Nat} {dA : Nat → ClassId} {s0 : State} {b0 : Addr} (Z : Z0 l dC dI dA s0 b0) (A : Nat → Prop) (sz : Nat) (hA : ∀ q : Nat, sz ≤ q → A q) (o : Nat → Nat) (th : Int32) (p0 q0 r0 : Nat) (mu : Int64) (ln at_ : Nat) (er ea : Int32) (vs wn op_ : Nat) (bw bb bp : Bool) (uf : Int32) (wr_ : Nat) : Met l yX7_errorPosition (ws_ yX7_errorPosition cX7_errorPosition 1 (some .int)) ({ frames := 1, cells := 0, slots := 0, locals := 60 } : Room) (gP [.ref (o 0)] s0 A (fun H => H.size = sz ∧ va_P (dC, dI) vwCl [(o 0, .inr (2, mFs o th p0 q0 r0 mu (zP ln at_ er ea vs wn op_ bw bb bp uf wr_)))] H ∧ va_D A [(o 0, .inr (2, mFs o th p0 q0 r0 mu (zP ln at_ er ea vs wn op_ bw bb bp uf wr_)))])) (va_Qi (S := Unit) (fun r _ => r = ea) (B1 (dC, dI) A (fun _ => [(o 0, .inr (2, mFs o (nI 0) p0 q0 r0 mu (zP ln at_ er ea vs wn op_ bw bb bp uf wr_)))]) (fun _ _ => True)) A) 0 0 A := by
  refine Met.ofW (cc := cX7_errorPosition) (maxL := 1) (ret := (some .int)) (by decide) rfl ?_
  intro p e s m args below meth c s₁ B hml hv
  obtain ⟨hav, hG, hsz, hP, hD⟩ := hv
  have hx := B.exec
  have hb := B.bytes
  have hr := B.returns
  have hts := atoms_spec (ws := (ws_ yX7_errorPosition cX7_errorPosition 1 (some .int))) B.pre
  have hts : ∀ w ∈ lw_all, w.before _ s = true := fun w h => hts w (List.mem_cons_of_mem _ h)
  have hown : s.vm.findClass RX7 = some m.cls := findClass_of_methodNamed B.named
  have hlocks := B.notSynchronized
  have hK := hG.K Z
  subst hsz
  have hS : va_S A s.heap s.heap [] := va_S.rf
  have hl := lv_entry ([.ref (o 0)]) (n := 1) (Nat.le_of_ble_eq_true rfl)
  rw [show entryFrame m args 1 = entryFrame m ([.ref (o 0)] : List Value).toArray 1 from by rw [hav], lg_entry_eq]
  generalize (lg_sl ([.ref (o 0)]) ++ List.replicate (1 - (lg_sl ([.ref (o 0)])).length) Slot.unset).toArray = ls at hl ⊢
  have hl : lv_has ls 1 [(0, .ref (o 0))] := hl
  generalize hQe : MQ below _ _ s _ _ _ = Q
  change W p l e ({ frames := 1, cells := 0, slots := 0, locals := 60 } : Room) s m args below meth c s.heap [] 0 0 Q (F0 m 0 ls [])
  refine lv_aload_n hx hb dX7_errorPosition_0 rfl (lv_at hl 0 rfl) ?_
  refine lv_iconst (v := nI 0) hx hb dX7_errorPosition_1 (by decide) ?_
  refine va_put (D := (dC, dI)) (ci := 2) (v := .int (nI 0)) (ty := .int) (C := RX7) (T := TX7) (N := 27) hx hb hts in_X7 tyX7 tyX7_ok nmX7 hown hK hP hD hS 0 rfl rfl 0 (by decide) (hts _ q2006) (fun _ h9 => h9) rfl (by decide +kernel) rfl rfl (Nat.le_of_ble_eq_true rfl) dX7_errorPosition_2 (fun H locs hP hD hS => ?_)
  have hP : va_P (dC, dI) vwCl [(o 0, .inr (2, mFs o (nI 0) p0 q0 r0 mu (zP ln at_ er ea vs wn op_ bw bb bp uf wr_)))] H := hP
  have hD : va_D A [(o 0, .inr (2, mFs o (nI 0) p0 q0 r0 mu (zP ln at_ er ea vs wn op_ bw bb bp uf wr_)))] := hD
  refine lv_aload_n hx hb dX7_errorPosition_5 rfl (lv_at hl 0 rfl) ?_
  refine va_get (D := (dC, dI)) (ci := 2) (v := .int ea) (C := RX7) (T := TX7) (N := 27) hx hb hts in_X7 hown hK hP 0 rfl rfl 15 (by decide) (hts _ q2021) (fun _ h9 => h9) rfl dX7_errorPosition_6 ?_
  subst hQe
  exact W.iret (v := ea) hx hb hr (fun tz ht hW => ⟨⟨_, (), rfl, rfl, B1_at ht (hP.sub [0] rfl) (hD.sub [0] (by decide) rfl) trivial⟩, hS.F ht⟩) hS.2.2 dX7_errorPosition_9
set_option maxHeartbeats 4000000 in
theorem x7_outputByte {l : Launch} {dC : Nat → ClassId} {dI : Nat → Nat → Nat} {dA : Nat → ClassId} {s0 : State} {b0 : Addr} (Z : Z0 l dC dI dA s0 b0) (A : Nat → Prop) (sz : Nat) (hA : ∀ q : Nat, sz ≤ q → A q) (o : Nat → Nat) (th : Int32) (p0 q0 r0 : Nat) (mu : Int64) (ln at_ : Nat) (er ea : Int32) (vs wn op_ : Nat) (bw bb bp : Bool) (uf : Int32) (wr_ : Nat) (fO : Nat → Int32) (L : List Nat) (i : Int32) (hw9 : L.length ≤ 1200) (hn9 : L.length = wr_) (hO : OutH L fO) (hL : ∀ x ∈ L, x < 256) : Met l yX7_outputByte (ws_ yX7_outputByte cX7_outputByte 2 (some .int)) ({ frames := 1, cells := 0, slots := 0, locals := 60 } : Room) (gP [.ref (o 0), .int i] s0 A (fun H => H.size = sz ∧ va_P (dC, dI) vwCl [(o 0, .inr (2, mFs o th p0 q0 r0 mu (zP ln at_ er ea vs wn op_ bw bb bp uf wr_))), (o 10, .inl (dA 2, 1200, .inl fO))] H ∧ va_D A [(o 0, .inr (2, mFs o th p0 q0 r0 mu (zP ln at_ er ea vs wn op_ bw bb bp uf wr_))), (o 10, .inl (dA 2, 1200, .inl fO))])) (va_Qi (S := Int32) (fun r u => (u, r) = obX L i) (B1 (dC, dI) A (fun u => [(o 0, .inr (2, mFs o u p0 q0 r0 mu (zP ln at_ er ea vs wn op_ bw bb bp uf wr_))), (o 10, .inl (dA 2, 1200, .inl fO))]) (fun _ _ => True)) A) 0 0 A := by
  refine Met.ofW (cc := cX7_outputByte) (maxL := 2) (ret := (some .int)) (by decide) rfl ?_
  intro p e s m args below meth c s₁ B hml hv
  obtain ⟨hav, hG, hsz, hP, hD⟩ := hv
  have hx := B.exec
  have hb := B.bytes
  have hr := B.returns
  have hts := atoms_spec (ws := (ws_ yX7_outputByte cX7_outputByte 2 (some .int))) B.pre
  have hts : ∀ w ∈ lw_all, w.before _ s = true := fun w h => hts w (List.mem_cons_of_mem _ h)
  have hown : s.vm.findClass RX7 = some m.cls := findClass_of_methodNamed B.named
  have hlocks := B.notSynchronized
  have hK := hG.K Z
  subst hsz
  have hS : va_S A s.heap s.heap [] := va_S.rf
  have hl := lv_entry ([.ref (o 0), .int i]) (n := 2) (Nat.le_of_ble_eq_true rfl)
  rw [show entryFrame m args 2 = entryFrame m ([.ref (o 0), .int i] : List Value).toArray 2 from by rw [hav], lg_entry_eq]
  generalize (lg_sl ([.ref (o 0), .int i]) ++ List.replicate (2 - (lg_sl ([.ref (o 0), .int i])).length) Slot.unset).toArray = ls at hl ⊢
  have hl : lv_has ls 2 [(0, .ref (o 0)), (1, .int i)] := hl
  generalize hQe : MQ below _ _ s _ _ _ = Q
  change W p l e ({ frames := 1, cells := 0, slots := 0, locals := 60 } : Room) s m args below meth c s.heap [] 0 0 Q (F0 m 0 ls [])
  refine lv_aload_n hx hb dX7_outputByte_0 rfl (lv_at hl 0 rfl) ?_
  refine lv_iload_n hx hb dX7_outputByte_1 rfl (lv_at hl 1 rfl) ?_
  refine lv_if_lt (tgt := 9) hx hb dX7_outputByte_2 (by decide) (fun c_2 => ?_) (fun c_2 => ?_)
  · refine lv_iconst (v := nI 1) hx hb dX7_outputByte_9 (by decide) ?_
    refine va_put (D := (dC, dI)) (ci := 2) (v := .int (nI 1)) (ty := .int) (C := RX7) (T := TX7) (N := 27) hx hb hts in_X7 tyX7 tyX7_ok nmX7 hown hK hP hD hS 0 rfl rfl 0 (by decide) (hts _ q2006) (fun _ h9 => h9) rfl (by decide +kernel) rfl rfl (Nat.le_of_ble_eq_true rfl) dX7_outputByte_10 (fun H locs hP hD hS => ?_)
    have hP : va_P (dC, dI) vwCl [(o 0, .inr (2, mFs o (nI 1) p0 q0 r0 mu (zP ln at_ er ea vs wn op_ bw bb bp uf wr_))), (o 10, .inl (dA 2, 1200, .inl fO))] H := hP
    have hD : va_D A [(o 0, .inr (2, mFs o (nI 1) p0 q0 r0 mu (zP ln at_ er ea vs wn op_ bw bb bp uf wr_))), (o 10, .inl (dA 2, 1200, .inl fO))] := hD
    refine lv_aload_n hx hb dX7_outputByte_13 rfl (lv_at hl 0 rfl) ?_
    refine va_get (D := (dC, dI)) (ci := 2) (v := .int (nI 1)) (C := RX7) (T := TX7) (N := 27) hx hb hts in_X7 hown hK hP 0 rfl rfl 0 (by decide) (hts _ q2006) (fun _ h9 => h9) rfl dX7_outputByte_14 ?_
    refine lv_if_le (tgt := 22) hx hb dX7_outputByte_17 (by decide) (fun c_17 => ?_) (fun c_17 => ?_)
    · exact absurd c_17 (by decide)
    refine lv_iconst (v := nI 0) hx hb dX7_outputByte_20 (by decide) ?_
    subst hQe
    exact W.iret (v := nI 0) hx hb hr (fun tz ht hW => ⟨⟨_, nI 1, rfl, (by unfold obX; rw [if_pos c_2]), B1_at ht (hP.sub [0, 1] rfl) (hD.sub [0, 1] (by decide) rfl) trivial⟩, hS.F ht⟩) hS.2.2 dX7_outputByte_21
  · obtain ⟨ji, hji, rfl⟩ := nI_of c_2
    refine lv_iconst (v := nI 0) hx hb dX7_outputByte_5 (by decide) ?_
    refine lv_goto (tgt := 10) hx hb dX7_outputByte_6 (by decide) ?_
    refine va_put (D := (dC, dI)) (ci := 2) (v := .int (nI 0)) (ty := .int) (C := RX7) (T := TX7) (N := 27) hx hb hts in_X7 tyX7 tyX7_ok nmX7 hown hK hP hD hS 0 rfl rfl 0 (by decide) (hts _ q2006) (fun _ h9 => h9) rfl (by decide +kernel) rfl rfl (Nat.le_of_ble_eq_true rfl) dX7_outputByte_10 (fun H locs hP hD hS => ?_)
    have hP : va_P (dC, dI) vwCl [(o 0, .inr (2, mFs o (nI 0) p0 q0 r0 mu (zP ln at_ er ea vs wn op_ bw bb bp uf wr_))), (o 10, .inl (dA 2, 1200, .inl fO))] H := hP
    have hD : va_D A [(o 0, .inr (2, mFs o (nI 0) p0 q0 r0 mu (zP ln at_ er ea vs wn op_ bw bb bp uf wr_))), (o 10, .inl (dA 2, 1200, .inl fO))] := hD
    refine lv_aload_n hx hb dX7_outputByte_13 rfl (lv_at hl 0 rfl) ?_
    refine va_get (D := (dC, dI)) (ci := 2) (v := .int (nI 0)) (C := RX7) (T := TX7) (N := 27) hx hb hts in_X7 hown hK hP 0 rfl rfl 0 (by decide) (hts _ q2006) (fun _ h9 => h9) rfl dX7_outputByte_14 ?_
    refine lv_if_le (tgt := 22) hx hb dX7_outputByte_17 (by decide) (fun c_17 => ?_) (fun c_17 => ?_)
    rotate_left
    · exact absurd (by decide) c_17
    refine lv_iload_n hx hb dX7_outputByte_22 rfl (lv_at hl 1 rfl) ?_
    refine lv_aload_n hx hb dX7_outputByte_23 rfl (lv_at hl 0 rfl) ?_
    refine va_get (D := (dC, dI)) (ci := 2) (v := .int (nI wr_)) (C := RX7) (T := TX7) (N := 27) hx hb hts in_X7 hown hK hP 0 rfl rfl 26 (by decide) (hts _ q2032) (fun _ h9 => h9) rfl dX7_outputByte_24 ?_
    refine lv_icmp_ge (tgt := 43) hx hb dX7_outputByte_27 (by decide) (fun c_27 => ?_) (fun c_27 => ?_)
    · have c_27 : wr_ ≤ ji := (nI_leI (a := wr_) (b := ji) (by omega) (by omega)).mp c_27
      refine lv_iconst (v := (-1)) hx hb dX7_outputByte_43 (by decide) ?_
      subst hQe
      exact W.iret (v := (-1)) hx hb hr (fun tz ht hW => ⟨⟨_, nI 0, rfl, (by unfold obX; rw [if_neg c_2, nI_clamp hji]; rw [if_neg (by omega)]), B1_at ht (hP.sub [0, 1] rfl) (hD.sub [0, 1] (by decide) rfl) trivial⟩, hS.F ht⟩) hS.2.2 dX7_outputByte_44
    · have c_27 : ¬ wr_ ≤ ji := fun h => c_27 ((nI_leI (a := wr_) (b := ji) (by omega) (by omega)).mpr h)
      refine lv_aload_n hx hb dX7_outputByte_30 rfl (lv_at hl 0 rfl) ?_
      refine va_get (D := (dC, dI)) (ci := 2) (v := .ref (o 10)) (C := RX7) (T := TX7) (N := 27) hx hb hts in_X7 hown hK hP 0 rfl rfl 25 (by decide) (hts _ q2031) (fun _ h9 => h9) rfl dX7_outputByte_31 ?_
      refine lv_iload_n hx hb dX7_outputByte_34 rfl (lv_at hl 1 rfl) ?_
      refine a_bald hx hb hK hP 1 2 rfl rfl (by omega) (by omega) dX7_outputByte_35 ?_
      refine lv_sipush (v := nI 255) hx hb dX7_outputByte_36 (by decide) ?_
      refine lv_iand hx hb dX7_outputByte_39 ?_
      refine e_i (y := nI (L.getD ji 0)) ((by rw [hO ji (by omega)]; exact (sb_byte _ (by rw [List.getD_eq_getElem?_getD, List.getElem?_eq_getElem (by omega)]; exact hL _ (List.getElem_mem _))).1)) ?_
      refine lv_goto (tgt := 44) hx hb dX7_outputByte_40 (by decide) ?_
      subst hQe
      exact W.iret (v := nI (L.getD ji 0)) hx hb hr (fun tz ht hW => ⟨⟨_, nI 0, rfl, (by unfold obX; rw [if_neg c_2, nI_clamp hji]; rw [if_pos (by omega)]), B1_at ht (hP.sub [0, 1] rfl) (hD.sub [0, 1] (by decide) rfl) trivial⟩, hS.F ht⟩) hS.2.2 dX7_outputByte_44
set_option maxHeartbeats 4000000 in
theorem x7_appendText {l : Launch} {dC : Nat → ClassId} {dI : Nat → Nat → Nat} {dA : Nat → ClassId} {s0 : State} {b0 : Addr} (Z : Z0 l dC dI dA s0 b0) (A : Nat → Prop) (sz : Nat) (hA : ∀ q : Nat, sz ≤ q → A q) (o : Nat → Nat) (th : Int32) (p0 q0 r0 : Nat) (mu : Int64) (ln at_ : Nat) (er ea : Int32) (vs wn op_ : Nat) (bw bb bp : Bool) (uf : Int32) (wr_ : Nat) (fT : Nat → Int32) (x : Int32) (hl9 : ln ≤ 200) : Met l yX7_appendText (ws_ yX7_appendText cX7_appendText 3 (some .int)) ({ frames := 1, cells := 0, slots := 0, locals := 60 } : Room) (gP [.ref (o 0), .int x] s0 A (fun H => H.size = sz ∧ va_P (dC, dI) vwCl [(o 0, .inr (2, mFs o th p0 q0 r0 mu (zP ln at_ er ea vs wn op_ bw bb bp uf wr_))), (o 7, .inl (dA 2, 200, .inl fT))] H ∧ va_D A [(o 0, .inr (2, mFs o th p0 q0 r0 mu (zP ln at_ er ea vs wn op_ bw bb bp uf wr_))), (o 7, .inl (dA 2, 200, .inl fT))])) (va_Qi (S := Int32 × Nat × (Nat → Int32)) (fun r u => ((u.1, r), u.2.1, u.2.2) = apS ln fT x) (B1 (dC, dI) A (fun u => [(o 0, .inr (2, mFs o u.1 p0 q0 r0 mu (zP u.2.1 at_ er ea vs wn op_ bw bb bp uf wr_))), (o 7, .inl (dA 2, 200, .inl u.2.2))]) (fun _ _ => True)) A) 0 0 A := by
  refine Met.ofW (cc := cX7_appendText) (maxL := 3) (ret := (some .int)) (by decide) rfl ?_
  intro p e s m args below meth c s₁ B hml hv
  obtain ⟨hav, hG, hsz, hP, hD⟩ := hv
  have hx := B.exec
  have hb := B.bytes
  have hr := B.returns
  have hts := atoms_spec (ws := (ws_ yX7_appendText cX7_appendText 3 (some .int))) B.pre
  have hts : ∀ w ∈ lw_all, w.before _ s = true := fun w h => hts w (List.mem_cons_of_mem _ h)
  have hown : s.vm.findClass RX7 = some m.cls := findClass_of_methodNamed B.named
  have hlocks := B.notSynchronized
  have hK := hG.K Z
  subst hsz
  have hS : va_S A s.heap s.heap [] := va_S.rf
  have hl := lv_entry ([.ref (o 0), .int x]) (n := 3) (Nat.le_of_ble_eq_true rfl)
  rw [show entryFrame m args 3 = entryFrame m ([.ref (o 0), .int x] : List Value).toArray 3 from by rw [hav], lg_entry_eq]
  generalize (lg_sl ([.ref (o 0), .int x]) ++ List.replicate (3 - (lg_sl ([.ref (o 0), .int x])).length) Slot.unset).toArray = ls at hl ⊢
  have hl : lv_has ls 3 [(0, .ref (o 0)), (1, .int x)] := hl
  generalize hQe : MQ below _ _ s _ _ _ = Q
  change W p l e ({ frames := 1, cells := 0, slots := 0, locals := 60 } : Room) s m args below meth c s.heap [] 0 0 Q (F0 m 0 ls [])
  refine lv_aload_n hx hb dX7_appendText_0 rfl (lv_at hl 0 rfl) ?_
  refine lv_aload_n hx hb dX7_appendText_1 rfl (lv_at hl 0 rfl) ?_
  refine va_get (D := (dC, dI)) (ci := 2) (v := .int (nI ln)) (C := RX7) (T := TX7) (N := 27) hx hb hts in_X7 hown hK hP 0 rfl rfl 12 (by decide) (hts _ q2018) (fun _ h9 => h9) rfl dX7_appendText_2 ?_
  refine lv_iconst (v := nI 4) hx hb dX7_appendText_5 (by decide) ?_
  refine lv_iadd hx hb dX7_appendText_6 ?_
  refine e_i (y := nI (ln + 4)) (nI_add _ _) ?_
  refine lv_sipush (v := nI 200) hx hb dX7_appendText_7 (by decide) ?_
  refine lv_icmp_gt (tgt := 17) hx hb dX7_appendText_10 (by decide) (fun c_10 => ?_) (fun c_10 => ?_)
  · have c_10 : 200 < (ln + 4) := (nI_ltI (a := 200) (b := (ln + 4)) (by omega) (by omega)).mp c_10
    refine lv_iconst (v := nI 1) hx hb dX7_appendText_17 (by decide) ?_
    refine va_put (D := (dC, dI)) (ci := 2) (v := .int (nI 1)) (ty := .int) (C := RX7) (T := TX7) (N := 27) hx hb hts in_X7 tyX7 tyX7_ok nmX7 hown hK hP hD hS 0 rfl rfl 0 (by decide) (hts _ q2006) (fun _ h9 => h9) rfl (by decide +kernel) rfl rfl (Nat.le_of_ble_eq_true rfl) dX7_appendText_18 (fun H locs hP hD hS => ?_)
    have hP : va_P (dC, dI) vwCl [(o 0, .inr (2, mFs o (nI 1) p0 q0 r0 mu (zP ln at_ er ea vs wn op_ bw bb bp uf wr_))), (o 7, .inl (dA 2, 200, .inl fT))] H := hP
    have hD : va_D A [(o 0, .inr (2, mFs o (nI 1) p0 q0 r0 mu (zP ln at_ er ea vs wn op_ bw bb bp uf wr_))), (o 7, .inl (dA 2, 200, .inl fT))] := hD
    refine lv_aload_n hx hb dX7_appendText_21 rfl (lv_at hl 0 rfl) ?_
    refine va_get (D := (dC, dI)) (ci := 2) (v := .int (nI 1)) (C := RX7) (T := TX7) (N := 27) hx hb hts in_X7 hown hK hP 0 rfl rfl 0 (by decide) (hts _ q2006) (fun _ h9 => h9) rfl dX7_appendText_22 ?_
    refine lv_if_le (tgt := 30) hx hb dX7_appendText_25 (by decide) (fun c_25 => ?_) (fun c_25 => ?_)
    · exact absurd c_25 (by decide)
    refine lv_iconst (v := nI 0) hx hb dX7_appendText_28 (by decide) ?_
    subst hQe
    exact W.iret (v := nI 0) hx hb hr (fun tz ht hW => ⟨⟨_, (nI 1, ln, fT), rfl, (by unfold apS; rw [if_neg (by omega)]), B1_at ht (hP.sub [0, 1] rfl) (hD.sub [0, 1] (by decide) rfl) trivial⟩, hS.F ht⟩) hS.2.2 dX7_appendText_29
  · have c_10 : ¬ 200 < (ln + 4) := fun h => c_10 ((nI_ltI (a := 200) (b := (ln + 4)) (by omega) (by omega)).mpr h)
    refine lv_iconst (v := nI 0) hx hb dX7_appendText_13 (by decide) ?_
    refine lv_goto (tgt := 18) hx hb dX7_appendText_14 (by decide) ?_
    refine va_put (D := (dC, dI)) (ci := 2) (v := .int (nI 0)) (ty := .int) (C := RX7) (T := TX7) (N := 27) hx hb hts in_X7 tyX7 tyX7_ok nmX7 hown hK hP hD hS 0 rfl rfl 0 (by decide) (hts _ q2006) (fun _ h9 => h9) rfl (by decide +kernel) rfl rfl (Nat.le_of_ble_eq_true rfl) dX7_appendText_18 (fun H locs hP hD hS => ?_)
    have hP : va_P (dC, dI) vwCl [(o 0, .inr (2, mFs o (nI 0) p0 q0 r0 mu (zP ln at_ er ea vs wn op_ bw bb bp uf wr_))), (o 7, .inl (dA 2, 200, .inl fT))] H := hP
    have hD : va_D A [(o 0, .inr (2, mFs o (nI 0) p0 q0 r0 mu (zP ln at_ er ea vs wn op_ bw bb bp uf wr_))), (o 7, .inl (dA 2, 200, .inl fT))] := hD
    refine lv_aload_n hx hb dX7_appendText_21 rfl (lv_at hl 0 rfl) ?_
    refine va_get (D := (dC, dI)) (ci := 2) (v := .int (nI 0)) (C := RX7) (T := TX7) (N := 27) hx hb hts in_X7 hown hK hP 0 rfl rfl 0 (by decide) (hts _ q2006) (fun _ h9 => h9) rfl dX7_appendText_22 ?_
    refine lv_if_le (tgt := 30) hx hb dX7_appendText_25 (by decide) (fun c_25 => ?_) (fun c_25 => ?_)
    rotate_left
    · exact absurd (by decide) c_25
    refine lv_bipush (v := nI 24) hx hb dX7_appendText_30 (by decide) ?_
    refine lv_istore_n (lv' := [(2, .int (nI 24)), (0, .ref (o 0)), (1, .int x)]) hx hb dX7_appendText_32 rfl hl (by decide) rfl (fun ls hl => ?_)
    refine lv_iload_n hx hb dX7_appendText_33 rfl (lv_at hl 0 rfl) ?_
    refine lv_if_lt (tgt := 66) hx hb dX7_appendText_34 (by decide) (fun c_34 => ?_) (fun c_34 => ?_)
    · exact absurd c_34 (by decide)
    refine lv_aload_n hx hb dX7_appendText_37 rfl (lv_at hl 1 rfl) ?_
    refine va_get (D := (dC, dI)) (ci := 2) (v := .ref (o 7)) (C := RX7) (T := TX7) (N := 27) hx hb hts in_X7 hown hK hP 0 rfl rfl 11 (by decide) (hts _ q2017) (fun _ h9 => h9) rfl dX7_appendText_38 ?_
    refine lv_aload_n hx hb dX7_appendText_41 rfl (lv_at hl 1 rfl) ?_
    refine va_get (D := (dC, dI)) (ci := 2) (v := .int (nI ln)) (C := RX7) (T := TX7) (N := 27) hx hb hts in_X7 hown hK hP 0 rfl rfl 12 (by decide) (hts _ q2018) (fun _ h9 => h9) rfl dX7_appendText_42 ?_
    refine lv_iload_n hx hb dX7_appendText_45 rfl (lv_at hl 2 rfl) ?_
    refine lv_iload_n hx hb dX7_appendText_46 rfl (lv_at hl 0 rfl) ?_
    refine lv_ishr hx hb dX7_appendText_47 ?_
    refine lv_i2b (v := (x >>> ((nI 24) &&& 31)).toInt8.toInt32) hx hb dX7_appendText_48 rfl ?_
    refine a_bast hx hb hK hP hD hS 1 2 rfl rfl (by omega) (by omega) dX7_appendText_49 (fun H locs hP hD hS => ?_)
    have hP : va_P (dC, dI) vwCl [(o 0, .inr (2, mFs o (nI 0) p0 q0 r0 mu (zP ln at_ er ea vs wn op_ bw bb bp uf wr_))), (o 7, .inl (dA 2, 200, .inl (upd fT ln (vp_nar .byte ((x >>> ((nI 24) &&& 31)).toInt8.toInt32)))))] H := hP
    have hD : va_D A [(o 0, .inr (2, mFs o (nI 0) p0 q0 r0 mu (zP ln at_ er ea vs wn op_ bw bb bp uf wr_))), (o 7, .inl (dA 2, 200, .inl (upd fT ln (vp_nar .byte ((x >>> ((nI 24) &&& 31)).toInt8.toInt32)))))] := hD
    have e9 : (upd fT ln (vp_nar .byte ((x >>> ((nI 24) &&& 31)).toInt8.toInt32)) : Nat → Int32) = (upd fT ln (byV x 24)) := (by rw [pk_vb]; rfl)
    rw [e9] at hP hD; clear e9
    refine lv_aload_n hx hb dX7_appendText_50 rfl (lv_at hl 1 rfl) ?_
    refine lv_dup hx hb dX7_appendText_51 rfl ?_
    refine va_get (D := (dC, dI)) (ci := 2) (v := .int (nI ln)) (C := RX7) (T := TX7) (N := 27) hx hb hts in_X7 hown hK hP 0 rfl rfl 12 (by decide) (hts _ q2018) (fun _ h9 => h9) rfl dX7_appendText_52 ?_
    refine lv_iconst (v := nI 1) hx hb dX7_appendText_55 (by decide) ?_
    refine lv_iadd hx hb dX7_appendText_56 ?_
    refine e_i (y := nI (ln + 1)) (nI_add _ _) ?_
    refine va_put (D := (dC, dI)) (ci := 2) (v := .int (nI (ln + 1))) (ty := .int) (C := RX7) (T := TX7) (N := 27) hx hb hts in_X7 tyX7 tyX7_ok nmX7 hown hK hP hD hS 0 rfl rfl 12 (by decide) (hts _ q2018) (fun _ h9 => h9) rfl (by decide +kernel) rfl rfl (Nat.le_of_ble_eq_true rfl) dX7_appendText_57 (fun H locs hP hD hS => ?_)
    have hP : va_P (dC, dI) vwCl [(o 0, .inr (2, mFs o (nI 0) p0 q0 r0 mu (zP (ln + 1) at_ er ea vs wn op_ bw bb bp uf wr_))), (o 7, .inl (dA 2, 200, .inl (upd fT ln (byV x 24))))] H := hP
    have hD : va_D A [(o 0, .inr (2, mFs o (nI 0) p0 q0 r0 mu (zP (ln + 1) at_ er ea vs wn op_ bw bb bp uf wr_))), (o 7, .inl (dA 2, 200, .inl (upd fT ln (byV x 24))))] := hD
    refine lv_iinc (v := nI 16) (lv' := [(2, .int (nI 16)), (0, .ref (o 0)), (1, .int x)]) hx hb dX7_appendText_60 hl (k := 0) rfl (by decide) (by decide) rfl (fun ls hl => ?_)
    refine lv_goto (tgt := 33) hx hb dX7_appendText_63 (by decide) ?_
    refine lv_iload_n hx hb dX7_appendText_33 rfl (lv_at hl 0 rfl) ?_
    refine lv_if_lt (tgt := 66) hx hb dX7_appendText_34 (by decide) (fun c_34 => ?_) (fun c_34 => ?_)
    · exact absurd c_34 (by decide)
    refine lv_aload_n hx hb dX7_appendText_37 rfl (lv_at hl 1 rfl) ?_
    refine va_get (D := (dC, dI)) (ci := 2) (v := .ref (o 7)) (C := RX7) (T := TX7) (N := 27) hx hb hts in_X7 hown hK hP 0 rfl rfl 11 (by decide) (hts _ q2017) (fun _ h9 => h9) rfl dX7_appendText_38 ?_
    refine lv_aload_n hx hb dX7_appendText_41 rfl (lv_at hl 1 rfl) ?_
    refine va_get (D := (dC, dI)) (ci := 2) (v := .int (nI (ln + 1))) (C := RX7) (T := TX7) (N := 27) hx hb hts in_X7 hown hK hP 0 rfl rfl 12 (by decide) (hts _ q2018) (fun _ h9 => h9) rfl dX7_appendText_42 ?_
    refine lv_iload_n hx hb dX7_appendText_45 rfl (lv_at hl 2 rfl) ?_
    refine lv_iload_n hx hb dX7_appendText_46 rfl (lv_at hl 0 rfl) ?_
    refine lv_ishr hx hb dX7_appendText_47 ?_
    refine lv_i2b (v := (x >>> ((nI 16) &&& 31)).toInt8.toInt32) hx hb dX7_appendText_48 rfl ?_
    refine a_bast hx hb hK hP hD hS 1 2 rfl rfl (by omega) (by omega) dX7_appendText_49 (fun H locs hP hD hS => ?_)
    have hP : va_P (dC, dI) vwCl [(o 0, .inr (2, mFs o (nI 0) p0 q0 r0 mu (zP (ln + 1) at_ er ea vs wn op_ bw bb bp uf wr_))), (o 7, .inl (dA 2, 200, .inl (upd (upd fT ln (byV x 24)) (ln + 1) (vp_nar .byte ((x >>> ((nI 16) &&& 31)).toInt8.toInt32)))))] H := hP
    have hD : va_D A [(o 0, .inr (2, mFs o (nI 0) p0 q0 r0 mu (zP (ln + 1) at_ er ea vs wn op_ bw bb bp uf wr_))), (o 7, .inl (dA 2, 200, .inl (upd (upd fT ln (byV x 24)) (ln + 1) (vp_nar .byte ((x >>> ((nI 16) &&& 31)).toInt8.toInt32)))))] := hD
    have e9 : (upd (upd fT ln (byV x 24)) (ln + 1) (vp_nar .byte ((x >>> ((nI 16) &&& 31)).toInt8.toInt32)) : Nat → Int32) = (upd (upd fT ln (byV x 24)) (ln + 1) (byV x 16)) := (by rw [pk_vb]; rfl)
    rw [e9] at hP hD; clear e9
    refine lv_aload_n hx hb dX7_appendText_50 rfl (lv_at hl 1 rfl) ?_
    refine lv_dup hx hb dX7_appendText_51 rfl ?_
    refine va_get (D := (dC, dI)) (ci := 2) (v := .int (nI (ln + 1))) (C := RX7) (T := TX7) (N := 27) hx hb hts in_X7 hown hK hP 0 rfl rfl 12 (by decide) (hts _ q2018) (fun _ h9 => h9) rfl dX7_appendText_52 ?_
    refine lv_iconst (v := nI 1) hx hb dX7_appendText_55 (by decide) ?_
    refine lv_iadd hx hb dX7_appendText_56 ?_
    refine e_i (y := nI (ln + 1 + 1)) (nI_add _ _) ?_
    refine va_put (D := (dC, dI)) (ci := 2) (v := .int (nI (ln + 1 + 1))) (ty := .int) (C := RX7) (T := TX7) (N := 27) hx hb hts in_X7 tyX7 tyX7_ok nmX7 hown hK hP hD hS 0 rfl rfl 12 (by decide) (hts _ q2018) (fun _ h9 => h9) rfl (by decide +kernel) rfl rfl (Nat.le_of_ble_eq_true rfl) dX7_appendText_57 (fun H locs hP hD hS => ?_)
    have hP : va_P (dC, dI) vwCl [(o 0, .inr (2, mFs o (nI 0) p0 q0 r0 mu (zP (ln + 1 + 1) at_ er ea vs wn op_ bw bb bp uf wr_))), (o 7, .inl (dA 2, 200, .inl (upd (upd fT ln (byV x 24)) (ln + 1) (byV x 16))))] H := hP
    have hD : va_D A [(o 0, .inr (2, mFs o (nI 0) p0 q0 r0 mu (zP (ln + 1 + 1) at_ er ea vs wn op_ bw bb bp uf wr_))), (o 7, .inl (dA 2, 200, .inl (upd (upd fT ln (byV x 24)) (ln + 1) (byV x 16))))] := hD
    have hP : va_P (dC, dI) vwCl [(o 0, .inr (2, mFs o (nI 0) p0 q0 r0 mu (zP (ln + 2) at_ er ea vs wn op_ bw bb bp uf wr_))), (o 7, .inl (dA 2, 200, .inl (upd (upd fT ln (byV x 24)) (ln + 1) (byV x 16))))] H := hP
    have hD : va_D A [(o 0, .inr (2, mFs o (nI 0) p0 q0 r0 mu (zP (ln + 2) at_ er ea vs wn op_ bw bb bp uf wr_))), (o 7, .inl (dA 2, 200, .inl (upd (upd fT ln (byV x 24)) (ln + 1) (byV x 16))))] := hD
    refine lv_iinc (v := nI 8) (lv' := [(2, .int (nI 8)), (0, .ref (o 0)), (1, .int x)]) hx hb dX7_appendText_60 hl (k := 0) rfl (by decide) (by decide) rfl (fun ls hl => ?_)
    refine lv_goto (tgt := 33) hx hb dX7_appendText_63 (by decide) ?_
    refine lv_iload_n hx hb dX7_appendText_33 rfl (lv_at hl 0 rfl) ?_
    refine lv_if_lt (tgt := 66) hx hb dX7_appendText_34 (by decide) (fun c_34 => ?_) (fun c_34 => ?_)
    · exact absurd c_34 (by decide)
    refine lv_aload_n hx hb dX7_appendText_37 rfl (lv_at hl 1 rfl) ?_
    refine va_get (D := (dC, dI)) (ci := 2) (v := .ref (o 7)) (C := RX7) (T := TX7) (N := 27) hx hb hts in_X7 hown hK hP 0 rfl rfl 11 (by decide) (hts _ q2017) (fun _ h9 => h9) rfl dX7_appendText_38 ?_
    refine lv_aload_n hx hb dX7_appendText_41 rfl (lv_at hl 1 rfl) ?_
    refine va_get (D := (dC, dI)) (ci := 2) (v := .int (nI (ln + 2))) (C := RX7) (T := TX7) (N := 27) hx hb hts in_X7 hown hK hP 0 rfl rfl 12 (by decide) (hts _ q2018) (fun _ h9 => h9) rfl dX7_appendText_42 ?_
    refine lv_iload_n hx hb dX7_appendText_45 rfl (lv_at hl 2 rfl) ?_
    refine lv_iload_n hx hb dX7_appendText_46 rfl (lv_at hl 0 rfl) ?_
    refine lv_ishr hx hb dX7_appendText_47 ?_
    refine lv_i2b (v := (x >>> ((nI 8) &&& 31)).toInt8.toInt32) hx hb dX7_appendText_48 rfl ?_
    refine a_bast hx hb hK hP hD hS 1 2 rfl rfl (by omega) (by omega) dX7_appendText_49 (fun H locs hP hD hS => ?_)
    have hP : va_P (dC, dI) vwCl [(o 0, .inr (2, mFs o (nI 0) p0 q0 r0 mu (zP (ln + 2) at_ er ea vs wn op_ bw bb bp uf wr_))), (o 7, .inl (dA 2, 200, .inl (upd (upd (upd fT ln (byV x 24)) (ln + 1) (byV x 16)) (ln + 2) (vp_nar .byte ((x >>> ((nI 8) &&& 31)).toInt8.toInt32)))))] H := hP
    have hD : va_D A [(o 0, .inr (2, mFs o (nI 0) p0 q0 r0 mu (zP (ln + 2) at_ er ea vs wn op_ bw bb bp uf wr_))), (o 7, .inl (dA 2, 200, .inl (upd (upd (upd fT ln (byV x 24)) (ln + 1) (byV x 16)) (ln + 2) (vp_nar .byte ((x >>> ((nI 8) &&& 31)).toInt8.toInt32)))))] := hD
    have e9 : (upd (upd (upd fT ln (byV x 24)) (ln + 1) (byV x 16)) (ln + 2) (vp_nar .byte ((x >>> ((nI 8) &&& 31)).toInt8.toInt32)) : Nat → Int32) = (upd (upd (upd fT ln (byV x 24)) (ln + 1) (byV x 16)) (ln + 2) (byV x 8)) := (by rw [pk_vb]; rfl)
    rw [e9] at hP hD; clear e9
    refine lv_aload_n hx hb dX7_appendText_50 rfl (lv_at hl 1 rfl) ?_
    refine lv_dup hx hb dX7_appendText_51 rfl ?_
    refine va_get (D := (dC, dI)) (ci := 2) (v := .int (nI (ln + 2))) (C := RX7) (T := TX7) (N := 27) hx hb hts in_X7 hown hK hP 0 rfl rfl 12 (by decide) (hts _ q2018) (fun _ h9 => h9) rfl dX7_appendText_52 ?_
    refine lv_iconst (v := nI 1) hx hb dX7_appendText_55 (by decide) ?_
    refine lv_iadd hx hb dX7_appendText_56 ?_
    refine e_i (y := nI (ln + 2 + 1)) (nI_add _ _) ?_
    refine va_put (D := (dC, dI)) (ci := 2) (v := .int (nI (ln + 2 + 1))) (ty := .int) (C := RX7) (T := TX7) (N := 27) hx hb hts in_X7 tyX7 tyX7_ok nmX7 hown hK hP hD hS 0 rfl rfl 12 (by decide) (hts _ q2018) (fun _ h9 => h9) rfl (by decide +kernel) rfl rfl (Nat.le_of_ble_eq_true rfl) dX7_appendText_57 (fun H locs hP hD hS => ?_)
    have hP : va_P (dC, dI) vwCl [(o 0, .inr (2, mFs o (nI 0) p0 q0 r0 mu (zP (ln + 2 + 1) at_ er ea vs wn op_ bw bb bp uf wr_))), (o 7, .inl (dA 2, 200, .inl (upd (upd (upd fT ln (byV x 24)) (ln + 1) (byV x 16)) (ln + 2) (byV x 8))))] H := hP
    have hD : va_D A [(o 0, .inr (2, mFs o (nI 0) p0 q0 r0 mu (zP (ln + 2 + 1) at_ er ea vs wn op_ bw bb bp uf wr_))), (o 7, .inl (dA 2, 200, .inl (upd (upd (upd fT ln (byV x 24)) (ln + 1) (byV x 16)) (ln + 2) (byV x 8))))] := hD
    have hP : va_P (dC, dI) vwCl [(o 0, .inr (2, mFs o (nI 0) p0 q0 r0 mu (zP (ln + 3) at_ er ea vs wn op_ bw bb bp uf wr_))), (o 7, .inl (dA 2, 200, .inl (upd (upd (upd fT ln (byV x 24)) (ln + 1) (byV x 16)) (ln + 2) (byV x 8))))] H := hP
    have hD : va_D A [(o 0, .inr (2, mFs o (nI 0) p0 q0 r0 mu (zP (ln + 3) at_ er ea vs wn op_ bw bb bp uf wr_))), (o 7, .inl (dA 2, 200, .inl (upd (upd (upd fT ln (byV x 24)) (ln + 1) (byV x 16)) (ln + 2) (byV x 8))))] := hD
    refine lv_iinc (v := nI 0) (lv' := [(2, .int (nI 0)), (0, .ref (o 0)), (1, .int x)]) hx hb dX7_appendText_60 hl (k := 0) rfl (by decide) (by decide) rfl (fun ls hl => ?_)
    refine lv_goto (tgt := 33) hx hb dX7_appendText_63 (by decide) ?_
    refine lv_iload_n hx hb dX7_appendText_33 rfl (lv_at hl 0 rfl) ?_
    refine lv_if_lt (tgt := 66) hx hb dX7_appendText_34 (by decide) (fun c_34 => ?_) (fun c_34 => ?_)
    · exact absurd c_34 (by decide)
    refine lv_aload_n hx hb dX7_appendText_37 rfl (lv_at hl 1 rfl) ?_
    refine va_get (D := (dC, dI)) (ci := 2) (v := .ref (o 7)) (C := RX7) (T := TX7) (N := 27) hx hb hts in_X7 hown hK hP 0 rfl rfl 11 (by decide) (hts _ q2017) (fun _ h9 => h9) rfl dX7_appendText_38 ?_
    refine lv_aload_n hx hb dX7_appendText_41 rfl (lv_at hl 1 rfl) ?_
    refine va_get (D := (dC, dI)) (ci := 2) (v := .int (nI (ln + 3))) (C := RX7) (T := TX7) (N := 27) hx hb hts in_X7 hown hK hP 0 rfl rfl 12 (by decide) (hts _ q2018) (fun _ h9 => h9) rfl dX7_appendText_42 ?_
    refine lv_iload_n hx hb dX7_appendText_45 rfl (lv_at hl 2 rfl) ?_
    refine lv_iload_n hx hb dX7_appendText_46 rfl (lv_at hl 0 rfl) ?_
    refine lv_ishr hx hb dX7_appendText_47 ?_
    refine lv_i2b (v := (x >>> ((nI 0) &&& 31)).toInt8.toInt32) hx hb dX7_appendText_48 rfl ?_
    refine a_bast hx hb hK hP hD hS 1 2 rfl rfl (by omega) (by omega) dX7_appendText_49 (fun H locs hP hD hS => ?_)
    have hP : va_P (dC, dI) vwCl [(o 0, .inr (2, mFs o (nI 0) p0 q0 r0 mu (zP (ln + 3) at_ er ea vs wn op_ bw bb bp uf wr_))), (o 7, .inl (dA 2, 200, .inl (upd (upd (upd (upd fT ln (byV x 24)) (ln + 1) (byV x 16)) (ln + 2) (byV x 8)) (ln + 3) (vp_nar .byte ((x >>> ((nI 0) &&& 31)).toInt8.toInt32)))))] H := hP
    have hD : va_D A [(o 0, .inr (2, mFs o (nI 0) p0 q0 r0 mu (zP (ln + 3) at_ er ea vs wn op_ bw bb bp uf wr_))), (o 7, .inl (dA 2, 200, .inl (upd (upd (upd (upd fT ln (byV x 24)) (ln + 1) (byV x 16)) (ln + 2) (byV x 8)) (ln + 3) (vp_nar .byte ((x >>> ((nI 0) &&& 31)).toInt8.toInt32)))))] := hD
    have e9 : (upd (upd (upd (upd fT ln (byV x 24)) (ln + 1) (byV x 16)) (ln + 2) (byV x 8)) (ln + 3) (vp_nar .byte ((x >>> ((nI 0) &&& 31)).toInt8.toInt32)) : Nat → Int32) = (upd (upd (upd (upd fT ln (byV x 24)) (ln + 1) (byV x 16)) (ln + 2) (byV x 8)) (ln + 3) (byV x 0)) := (by rw [pk_vb]; rfl)
    rw [e9] at hP hD; clear e9
    refine lv_aload_n hx hb dX7_appendText_50 rfl (lv_at hl 1 rfl) ?_
    refine lv_dup hx hb dX7_appendText_51 rfl ?_
    refine va_get (D := (dC, dI)) (ci := 2) (v := .int (nI (ln + 3))) (C := RX7) (T := TX7) (N := 27) hx hb hts in_X7 hown hK hP 0 rfl rfl 12 (by decide) (hts _ q2018) (fun _ h9 => h9) rfl dX7_appendText_52 ?_
    refine lv_iconst (v := nI 1) hx hb dX7_appendText_55 (by decide) ?_
    refine lv_iadd hx hb dX7_appendText_56 ?_
    refine e_i (y := nI (ln + 3 + 1)) (nI_add _ _) ?_
    refine va_put (D := (dC, dI)) (ci := 2) (v := .int (nI (ln + 3 + 1))) (ty := .int) (C := RX7) (T := TX7) (N := 27) hx hb hts in_X7 tyX7 tyX7_ok nmX7 hown hK hP hD hS 0 rfl rfl 12 (by decide) (hts _ q2018) (fun _ h9 => h9) rfl (by decide +kernel) rfl rfl (Nat.le_of_ble_eq_true rfl) dX7_appendText_57 (fun H locs hP hD hS => ?_)
    have hP : va_P (dC, dI) vwCl [(o 0, .inr (2, mFs o (nI 0) p0 q0 r0 mu (zP (ln + 3 + 1) at_ er ea vs wn op_ bw bb bp uf wr_))), (o 7, .inl (dA 2, 200, .inl (upd (upd (upd (upd fT ln (byV x 24)) (ln + 1) (byV x 16)) (ln + 2) (byV x 8)) (ln + 3) (byV x 0))))] H := hP
    have hD : va_D A [(o 0, .inr (2, mFs o (nI 0) p0 q0 r0 mu (zP (ln + 3 + 1) at_ er ea vs wn op_ bw bb bp uf wr_))), (o 7, .inl (dA 2, 200, .inl (upd (upd (upd (upd fT ln (byV x 24)) (ln + 1) (byV x 16)) (ln + 2) (byV x 8)) (ln + 3) (byV x 0))))] := hD
    have hP : va_P (dC, dI) vwCl [(o 0, .inr (2, mFs o (nI 0) p0 q0 r0 mu (zP (ln + 4) at_ er ea vs wn op_ bw bb bp uf wr_))), (o 7, .inl (dA 2, 200, .inl (upd (upd (upd (upd fT ln (byV x 24)) (ln + 1) (byV x 16)) (ln + 2) (byV x 8)) (ln + 3) (byV x 0))))] H := hP
    have hD : va_D A [(o 0, .inr (2, mFs o (nI 0) p0 q0 r0 mu (zP (ln + 4) at_ er ea vs wn op_ bw bb bp uf wr_))), (o 7, .inl (dA 2, 200, .inl (upd (upd (upd (upd fT ln (byV x 24)) (ln + 1) (byV x 16)) (ln + 2) (byV x 8)) (ln + 3) (byV x 0))))] := hD
    refine lv_iinc (v := (-8)) (lv' := [(2, .int (-8)), (0, .ref (o 0)), (1, .int x)]) hx hb dX7_appendText_60 hl (k := 0) rfl (by decide) (by decide) rfl (fun ls hl => ?_)
    refine lv_goto (tgt := 33) hx hb dX7_appendText_63 (by decide) ?_
    refine lv_iload_n hx hb dX7_appendText_33 rfl (lv_at hl 0 rfl) ?_
    refine lv_if_lt (tgt := 66) hx hb dX7_appendText_34 (by decide) (fun c_34 => ?_) (fun c_34 => ?_)
    rotate_left
    · exact absurd (by decide) c_34
    refine lv_aload_n hx hb dX7_appendText_66 rfl (lv_at hl 1 rfl) ?_
    refine va_get (D := (dC, dI)) (ci := 2) (v := .int (nI (ln + 4))) (C := RX7) (T := TX7) (N := 27) hx hb hts in_X7 hown hK hP 0 rfl rfl 12 (by decide) (hts _ q2018) (fun _ h9 => h9) rfl dX7_appendText_67 ?_
    subst hQe
    exact W.iret (v := nI (ln + 4)) hx hb hr (fun tz ht hW => ⟨⟨_, (nI 0, ln + 4, upd (upd (upd (upd fT ln (byV x 24)) (ln + 1) (byV x 16)) (ln + 2) (byV x 8)) (ln + 3) (byV x 0)), rfl, (by unfold apS; rw [if_pos (by omega)]; rfl), B1_at ht (hP.sub [0, 1] rfl) (hD.sub [0, 1] (by decide) rfl) trivial⟩, hS.F ht⟩) hS.2.2 dX7_appendText_70
set_option maxHeartbeats 4000000 in
theorem x7_truncateText {l : Launch} {dC : Nat → ClassId} {dI : Nat → Nat → Nat} {dA : Nat → ClassId} {s0 : State} {b0 : Addr} (Z : Z0 l dC dI dA s0 b0) (A : Nat → Prop) (sz : Nat) (hA : ∀ q : Nat, sz ≤ q → A q) (o : Nat → Nat) (th : Int32) (p0 q0 r0 : Nat) (mu : Int64) (ln at_ : Nat) (er ea : Int32) (vs wn op_ : Nat) (bw bb bp : Bool) (uf : Int32) (wr_ : Nat) (i : Int32) (hl9 : ln ≤ 200) : Met l yX7_truncateText (ws_ yX7_truncateText cX7_truncateText 2 (some .int)) ({ frames := 2, cells := 0, slots := 0, locals := 120 } : Room) (gP [.ref (o 0), .int i] s0 A (fun H => H.size = sz ∧ va_P (dC, dI) vwCl [(o 0, .inr (2, mFs o th p0 q0 r0 mu (zP ln at_ er ea vs wn op_ bw bb bp uf wr_)))] H ∧ va_D A [(o 0, .inr (2, mFs o th p0 q0 r0 mu (zP ln at_ er ea vs wn op_ bw bb bp uf wr_)))])) (va_Qi (S := Int32 × Nat) (fun r u => ((u.1, r), u.2) = trX ln i) (B1 (dC, dI) A (fun u => [(o 0, .inr (2, mFs o u.1 p0 q0 r0 mu (zP u.2 at_ er ea vs wn op_ bw bb bp uf wr_)))]) (fun _ _ => True)) A) 0 0 A := by
  refine Met.ofW (cc := cX7_truncateText) (maxL := 2) (ret := (some .int)) (by decide) rfl ?_
  intro p e s m args below meth c s₁ B hml hv
  obtain ⟨hav, hG, hsz, hP, hD⟩ := hv
  have hx := B.exec
  have hb := B.bytes
  have hr := B.returns
  have hts := atoms_spec (ws := (ws_ yX7_truncateText cX7_truncateText 2 (some .int))) B.pre
  have hts : ∀ w ∈ lw_all, w.before _ s = true := fun w h => hts w (List.mem_cons_of_mem _ h)
  have hown : s.vm.findClass RX7 = some m.cls := findClass_of_methodNamed B.named
  have hlocks := B.notSynchronized
  have hK := hG.K Z
  subst hsz
  have hS : va_S A s.heap s.heap [] := va_S.rf
  have hl := lv_entry ([.ref (o 0), .int i]) (n := 2) (Nat.le_of_ble_eq_true rfl)
  rw [show entryFrame m args 2 = entryFrame m ([.ref (o 0), .int i] : List Value).toArray 2 from by rw [hav], lg_entry_eq]
  generalize (lg_sl ([.ref (o 0), .int i]) ++ List.replicate (2 - (lg_sl ([.ref (o 0), .int i])).length) Slot.unset).toArray = ls at hl ⊢
  have hl : lv_has ls 2 [(0, .ref (o 0)), (1, .int i)] := hl
  generalize hQe : MQ below _ _ s _ _ _ = Q
  change W p l e ({ frames := 2, cells := 0, slots := 0, locals := 120 } : Room) s m args below meth c s.heap [] 0 0 Q (F0 m 0 ls [])
  refine lv_aload_n hx hb dX7_truncateText_0 rfl (lv_at hl 0 rfl) ?_
  refine lv_iload_n hx hb dX7_truncateText_1 rfl (lv_at hl 1 rfl) ?_
  refine lv_iconst (v := nI 0) hx hb dX7_truncateText_2 (by decide) ?_
  refine lv_aload_n hx hb dX7_truncateText_3 rfl (lv_at hl 0 rfl) ?_
  refine va_get (D := (dC, dI)) (ci := 2) (v := .int (nI ln)) (C := RX7) (T := TX7) (N := 27) hx hb hts in_X7 hown hK hP 0 rfl rfl 12 (by decide) (hts _ q2018) (fun _ h9 => h9) rfl dX7_truncateText_4 ?_
  refine s_i (va_runS (As := [.int i, .int (nI 0), .int (nI ln)]) (rest := [.ref (o 0)]) ⟨hx, hb, hml, hown, hts⟩ (x7_in Z i (nI 0) (nI ln)) (va_cwS 3 hts (lw_S q2097 q2098 q107 q2099) rfl rfl rfl (by decide +kernel) ⟨Nat.le_of_ble_eq_true rfl, Nat.le_of_ble_eq_true rfl⟩) (gP_S hG hS (fun q _ h => h.elim) trivial) rfl rfl hl.1 rfl (lv_room (Nat.le_of_ble_eq_true rfl)) dX7_truncateText_7 ⟨by first | decide | omega, by first | decide | omega⟩) ?_
  refine lv_if_eq (tgt := 17) hx hb dX7_truncateText_10 (by decide) (fun c_10 => ?_) (fun c_10 => ?_)
  · have h_i := bI_0 c_10
    refine lv_iconst (v := nI 1) hx hb dX7_truncateText_17 (by decide) ?_
    refine va_put (D := (dC, dI)) (ci := 2) (v := .int (nI 1)) (ty := .int) (C := RX7) (T := TX7) (N := 27) hx hb hts in_X7 tyX7 tyX7_ok nmX7 hown hK hP hD hS 0 rfl rfl 0 (by decide) (hts _ q2006) (fun _ h9 => h9) rfl (by decide +kernel) rfl rfl (Nat.le_of_ble_eq_true rfl) dX7_truncateText_18 (fun H locs hP hD hS => ?_)
    have hP : va_P (dC, dI) vwCl [(o 0, .inr (2, mFs o (nI 1) p0 q0 r0 mu (zP ln at_ er ea vs wn op_ bw bb bp uf wr_)))] H := hP
    have hD : va_D A [(o 0, .inr (2, mFs o (nI 1) p0 q0 r0 mu (zP ln at_ er ea vs wn op_ bw bb bp uf wr_)))] := hD
    refine lv_aload_n hx hb dX7_truncateText_21 rfl (lv_at hl 0 rfl) ?_
    refine va_get (D := (dC, dI)) (ci := 2) (v := .int (nI 1)) (C := RX7) (T := TX7) (N := 27) hx hb hts in_X7 hown hK hP 0 rfl rfl 0 (by decide) (hts _ q2006) (fun _ h9 => h9) rfl dX7_truncateText_22 ?_
    refine lv_if_le (tgt := 30) hx hb dX7_truncateText_25 (by decide) (fun c_25 => ?_) (fun c_25 => ?_)
    · exact absurd c_25 (by decide)
    refine lv_iconst (v := nI 0) hx hb dX7_truncateText_28 (by decide) ?_
    subst hQe
    exact W.iret (v := nI 0) hx hb hr (fun tz ht hW => ⟨⟨_, (nI 1, ln), rfl, (by unfold trX; rw [h_i]; rfl), B1_at ht (hP.sub [0] rfl) (hD.sub [0] (by decide) rfl) trivial⟩, hS.F ht⟩) hS.2.2 dX7_truncateText_29
  · have h_i := bI_1 c_10
    obtain ⟨ji, hji, rfl⟩ := inB_nat (by omega) h_i
    refine lv_iconst (v := nI 0) hx hb dX7_truncateText_13 (by decide) ?_
    refine lv_goto (tgt := 18) hx hb dX7_truncateText_14 (by decide) ?_
    refine va_put (D := (dC, dI)) (ci := 2) (v := .int (nI 0)) (ty := .int) (C := RX7) (T := TX7) (N := 27) hx hb hts in_X7 tyX7 tyX7_ok nmX7 hown hK hP hD hS 0 rfl rfl 0 (by decide) (hts _ q2006) (fun _ h9 => h9) rfl (by decide +kernel) rfl rfl (Nat.le_of_ble_eq_true rfl) dX7_truncateText_18 (fun H locs hP hD hS => ?_)
    have hP : va_P (dC, dI) vwCl [(o 0, .inr (2, mFs o (nI 0) p0 q0 r0 mu (zP ln at_ er ea vs wn op_ bw bb bp uf wr_)))] H := hP
    have hD : va_D A [(o 0, .inr (2, mFs o (nI 0) p0 q0 r0 mu (zP ln at_ er ea vs wn op_ bw bb bp uf wr_)))] := hD
    refine lv_aload_n hx hb dX7_truncateText_21 rfl (lv_at hl 0 rfl) ?_
    refine va_get (D := (dC, dI)) (ci := 2) (v := .int (nI 0)) (C := RX7) (T := TX7) (N := 27) hx hb hts in_X7 hown hK hP 0 rfl rfl 0 (by decide) (hts _ q2006) (fun _ h9 => h9) rfl dX7_truncateText_22 ?_
    refine lv_if_le (tgt := 30) hx hb dX7_truncateText_25 (by decide) (fun c_25 => ?_) (fun c_25 => ?_)
    rotate_left
    · exact absurd (by decide) c_25
    refine lv_aload_n hx hb dX7_truncateText_30 rfl (lv_at hl 0 rfl) ?_
    refine lv_iload_n hx hb dX7_truncateText_31 rfl (lv_at hl 1 rfl) ?_
    refine va_put (D := (dC, dI)) (ci := 2) (v := .int (nI ji)) (ty := .int) (C := RX7) (T := TX7) (N := 27) hx hb hts in_X7 tyX7 tyX7_ok nmX7 hown hK hP hD hS 0 rfl rfl 12 (by decide) (hts _ q2018) (fun _ h9 => h9) rfl (by decide +kernel) rfl rfl (Nat.le_of_ble_eq_true rfl) dX7_truncateText_32 (fun H locs hP hD hS => ?_)
    have hP : va_P (dC, dI) vwCl [(o 0, .inr (2, mFs o (nI 0) p0 q0 r0 mu (zP ji at_ er ea vs wn op_ bw bb bp uf wr_)))] H := hP
    have hD : va_D A [(o 0, .inr (2, mFs o (nI 0) p0 q0 r0 mu (zP ji at_ er ea vs wn op_ bw bb bp uf wr_)))] := hD
    refine lv_aload_n hx hb dX7_truncateText_35 rfl (lv_at hl 0 rfl) ?_
    refine va_get (D := (dC, dI)) (ci := 2) (v := .int (nI ji)) (C := RX7) (T := TX7) (N := 27) hx hb hts in_X7 hown hK hP 0 rfl rfl 12 (by decide) (hts _ q2018) (fun _ h9 => h9) rfl dX7_truncateText_36 ?_
    subst hQe
    exact W.iret (v := nI ji) hx hb hr (fun tz ht hW => ⟨⟨_, (nI 0, ji), rfl, (by unfold trX; rw [h_i, nI_clamp (by omega)]; rfl), B1_at ht (hP.sub [0] rfl) (hD.sub [0] (by decide) rfl) trivial⟩, hS.F ht⟩) hS.2.2 dX7_truncateText_39
set_option maxHeartbeats 4000000 in
theorem x7_setSignature {l : Launch} {dC : Nat → ClassId} {dI : Nat → Nat → Nat} {dA : Nat → ClassId} {s0 : State} {b0 : Addr} (Z : Z0 l dC dI dA s0 b0) (A : Nat → Prop) (sz : Nat) (hA : ∀ q : Nat, sz ≤ q → A q) (o : Nat → Nat) (th : Int32) (p0 q0 r0 : Nat) (mu : Int64) (zz : Nat → Int32) (fA : Nat → Int64) (a b c9 : Int32) : Met l yX7_setSignature (ws_ yX7_setSignature cX7_setSignature 6 (some .int)) ({ frames := 3, cells := 0, slots := 0, locals := 180 } : Room) (gP [.ref (o 0), .int a, .int b, .int c9] s0 A (fun H => H.size = sz ∧ va_P (dC, dI) vwCl [(o 0, .inr (2, mFs o th p0 q0 r0 mu zz)), (o 5, .inl (dA 1, 2640, .inr (.inl fA)))] H ∧ va_D A [(o 0, .inr (2, mFs o th p0 q0 r0 mu zz)), (o 5, .inl (dA 1, 2640, .inr (.inl fA)))])) (va_Qi (S := Int32 × Nat × Nat × Nat × (Nat → Int64)) (fun r u => (ssB a b c9 = true ∧ u.1 = nI 0 ∧ a = nI u.2.1 ∧ b = nI u.2.2.1 ∧ c9 = nI u.2.2.2.1 ∧ 1 ≤ u.2.1 + u.2.2.1 + u.2.2.2.1 ∧ u.2.1 + u.2.2.1 + u.2.2.2.1 ≤ 5 ∧ r = nI (2 ^ (u.2.1 + u.2.2.1 + u.2.2.2.1)) ∧ (∀ j, j < 8 → Hold u.2.2.2.2 j (numM 0)) ∧ Kp fA u.2.2.2.2 (fun j => 8 ≤ j)) ∨ (ssB a b c9 = false ∧ u = (nI 1, p0, q0, r0, fA) ∧ r = nI 0)) (B1 (dC, dI) A (fun u => [(o 0, .inr (2, mFs o u.1 u.2.1 u.2.2.1 u.2.2.2.1 mu zz)), (o 5, .inl (dA 1, 2640, .inr (.inl u.2.2.2.2)))]) (fun _ _ => True)) A) 0 0 A := by
  refine Met.ofW (cc := cX7_setSignature) (maxL := 6) (ret := (some .int)) (by decide) rfl ?_
  intro p e s m args below meth c s₁ B hml hv
  obtain ⟨hav, hG, hsz, hP, hD⟩ := hv
  have hx := B.exec
  have hb := B.bytes
  have hr := B.returns
  have hts := atoms_spec (ws := (ws_ yX7_setSignature cX7_setSignature 6 (some .int))) B.pre
  have hts : ∀ w ∈ lw_all, w.before _ s = true := fun w h => hts w (List.mem_cons_of_mem _ h)
  have hown : s.vm.findClass RX7 = some m.cls := findClass_of_methodNamed B.named
  have hlocks := B.notSynchronized
  have hK := hG.K Z
  subst hsz
  have hS : va_S A s.heap s.heap [] := va_S.rf
  have hl := lv_entry ([.ref (o 0), .int a, .int b, .int c9]) (n := 6) (Nat.le_of_ble_eq_true rfl)
  rw [show entryFrame m args 6 = entryFrame m ([.ref (o 0), .int a, .int b, .int c9] : List Value).toArray 6 from by rw [hav], lg_entry_eq]
  generalize (lg_sl ([.ref (o 0), .int a, .int b, .int c9]) ++ List.replicate (6 - (lg_sl ([.ref (o 0), .int a, .int b, .int c9])).length) Slot.unset).toArray = ls at hl ⊢
  have hl : lv_has ls 6 [(0, .ref (o 0)), (1, .int a), (2, .int b), (3, .int c9)] := hl
  generalize hQe : MQ below _ _ s _ _ _ = Q
  change W p l e ({ frames := 3, cells := 0, slots := 0, locals := 180 } : Room) s m args below meth c s.heap [] 0 0 Q (F0 m 0 ls [])
  refine lv_iload_n hx hb dX7_setSignature_0 rfl (lv_at hl 1 rfl) ?_
  refine lv_iconst (v := nI 0) hx hb dX7_setSignature_1 (by decide) ?_
  refine lv_iconst (v := nI 5) hx hb dX7_setSignature_2 (by decide) ?_
  refine s_i (va_runS (As := [.int a, .int (nI 0), .int (nI 5)]) (rest := []) ⟨hx, hb, hml, hown, hts⟩ (x7_in Z a (nI 0) (nI 5)) (va_cwS 3 hts (lw_S q2097 q2098 q107 q2099) rfl rfl rfl (by decide +kernel) ⟨Nat.le_of_ble_eq_true rfl, Nat.le_of_ble_eq_true rfl⟩) (gP_S hG hS (fun q _ h => h.elim) trivial) rfl rfl hl.1 rfl (lv_room (Nat.le_of_ble_eq_true rfl)) dX7_setSignature_3 ⟨by first | decide | omega, by first | decide | omega⟩) ?_
  refine lv_if_eq (tgt := 31) hx hb dX7_setSignature_6 (by decide) (fun c_6 => ?_) (fun c_6 => ?_)
  · have h_a := bI_0 c_6
    refine lv_iconst (v := nI 0) hx hb dX7_setSignature_31 (by decide) ?_
    refine lv_istore (lv' := [(4, .int (nI 0)), (0, .ref (o 0)), (1, .int a), (2, .int b), (3, .int c9)]) hx hb dX7_setSignature_32 hl (by decide) rfl (fun ls hl => ?_)
    refine lv_aload_n hx hb dX7_setSignature_34 rfl (lv_at hl 1 rfl) ?_
    refine lv_iload hx hb dX7_setSignature_35 (lv_at hl 0 rfl) ?_
    refine lv_if_eq (tgt := 57) hx hb dX7_setSignature_37 (by decide) (fun c_37 => ?_) (fun c_37 => ?_)
    rotate_left
    · exact absurd (by decide) c_37
    refine lv_iconst (v := nI 1) hx hb dX7_setSignature_57 (by decide) ?_
    refine va_put (D := (dC, dI)) (ci := 2) (v := .int (nI 1)) (ty := .int) (C := RX7) (T := TX7) (N := 27) hx hb hts in_X7 tyX7 tyX7_ok nmX7 hown hK hP hD hS 0 rfl rfl 0 (by decide) (hts _ q2006) (fun _ h9 => h9) rfl (by decide +kernel) rfl rfl (Nat.le_of_ble_eq_true rfl) dX7_setSignature_58 (fun H locs hP hD hS => ?_)
    have hP : va_P (dC, dI) vwCl [(o 0, .inr (2, mFs o (nI 1) p0 q0 r0 mu zz)), (o 5, .inl (dA 1, 2640, .inr (.inl fA)))] H := hP
    have hD : va_D A [(o 0, .inr (2, mFs o (nI 1) p0 q0 r0 mu zz)), (o 5, .inl (dA 1, 2640, .inr (.inl fA)))] := hD
    refine lv_aload_n hx hb dX7_setSignature_61 rfl (lv_at hl 1 rfl) ?_
    refine va_get (D := (dC, dI)) (ci := 2) (v := .int (nI 1)) (C := RX7) (T := TX7) (N := 27) hx hb hts in_X7 hown hK hP 0 rfl rfl 0 (by decide) (hts _ q2006) (fun _ h9 => h9) rfl dX7_setSignature_62 ?_
    refine lv_if_le (tgt := 70) hx hb dX7_setSignature_65 (by decide) (fun c_65 => ?_) (fun c_65 => ?_)
    · exact absurd c_65 (by decide)
    refine lv_iconst (v := nI 0) hx hb dX7_setSignature_68 (by decide) ?_
    subst hQe
    exact W.iret (v := nI 0) hx hb hr (fun tz ht hW => ⟨⟨_, (nI 1, p0, q0, r0, fA), rfl, Or.inr ⟨(by unfold ssB; simp [h_a]), rfl, rfl⟩, B1_at ht (hP.sub [0, 1] rfl) (hD.sub [0, 1] (by decide) rfl) trivial⟩, hS.F ht⟩) hS.2.2 dX7_setSignature_69
  · have h_a := bI_1 c_6
    obtain ⟨ja, hj_a, rfl⟩ := inB_nat (by decide) h_a
    refine lv_iload_n hx hb dX7_setSignature_9 rfl (lv_at hl 2 rfl) ?_
    refine lv_iconst (v := nI 0) hx hb dX7_setSignature_10 (by decide) ?_
    refine lv_iconst (v := nI 5) hx hb dX7_setSignature_11 (by decide) ?_
    refine s_i (va_runS (As := [.int b, .int (nI 0), .int (nI 5)]) (rest := []) ⟨hx, hb, hml, hown, hts⟩ (x7_in Z b (nI 0) (nI 5)) (va_cwS 3 hts (lw_S q2097 q2098 q107 q2099) rfl rfl rfl (by decide +kernel) ⟨Nat.le_of_ble_eq_true rfl, Nat.le_of_ble_eq_true rfl⟩) (gP_S hG hS (fun q _ h => h.elim) trivial) rfl rfl hl.1 rfl (lv_room (Nat.le_of_ble_eq_true rfl)) dX7_setSignature_12 ⟨by first | decide | omega, by first | decide | omega⟩) ?_
    refine lv_if_eq (tgt := 31) hx hb dX7_setSignature_15 (by decide) (fun c_15 => ?_) (fun c_15 => ?_)
    · have h_b := bI_0 c_15
      refine lv_iconst (v := nI 0) hx hb dX7_setSignature_31 (by decide) ?_
      refine lv_istore (lv' := [(4, .int (nI 0)), (0, .ref (o 0)), (1, .int (nI ja)), (2, .int b), (3, .int c9)]) hx hb dX7_setSignature_32 hl (by decide) rfl (fun ls hl => ?_)
      refine lv_aload_n hx hb dX7_setSignature_34 rfl (lv_at hl 1 rfl) ?_
      refine lv_iload hx hb dX7_setSignature_35 (lv_at hl 0 rfl) ?_
      refine lv_if_eq (tgt := 57) hx hb dX7_setSignature_37 (by decide) (fun c_37 => ?_) (fun c_37 => ?_)
      rotate_left
      · exact absurd (by decide) c_37
      refine lv_iconst (v := nI 1) hx hb dX7_setSignature_57 (by decide) ?_
      refine va_put (D := (dC, dI)) (ci := 2) (v := .int (nI 1)) (ty := .int) (C := RX7) (T := TX7) (N := 27) hx hb hts in_X7 tyX7 tyX7_ok nmX7 hown hK hP hD hS 0 rfl rfl 0 (by decide) (hts _ q2006) (fun _ h9 => h9) rfl (by decide +kernel) rfl rfl (Nat.le_of_ble_eq_true rfl) dX7_setSignature_58 (fun H locs hP hD hS => ?_)
      have hP : va_P (dC, dI) vwCl [(o 0, .inr (2, mFs o (nI 1) p0 q0 r0 mu zz)), (o 5, .inl (dA 1, 2640, .inr (.inl fA)))] H := hP
      have hD : va_D A [(o 0, .inr (2, mFs o (nI 1) p0 q0 r0 mu zz)), (o 5, .inl (dA 1, 2640, .inr (.inl fA)))] := hD
      refine lv_aload_n hx hb dX7_setSignature_61 rfl (lv_at hl 1 rfl) ?_
      refine va_get (D := (dC, dI)) (ci := 2) (v := .int (nI 1)) (C := RX7) (T := TX7) (N := 27) hx hb hts in_X7 hown hK hP 0 rfl rfl 0 (by decide) (hts _ q2006) (fun _ h9 => h9) rfl dX7_setSignature_62 ?_
      refine lv_if_le (tgt := 70) hx hb dX7_setSignature_65 (by decide) (fun c_65 => ?_) (fun c_65 => ?_)
      · exact absurd c_65 (by decide)
      refine lv_iconst (v := nI 0) hx hb dX7_setSignature_68 (by decide) ?_
      subst hQe
      exact W.iret (v := nI 0) hx hb hr (fun tz ht hW => ⟨⟨_, (nI 1, p0, q0, r0, fA), rfl, Or.inr ⟨(by unfold ssB; simp [h_a, h_b]), rfl, rfl⟩, B1_at ht (hP.sub [0, 1] rfl) (hD.sub [0, 1] (by decide) rfl) trivial⟩, hS.F ht⟩) hS.2.2 dX7_setSignature_69
    · have h_b := bI_1 c_15
      obtain ⟨jb, hj_b, rfl⟩ := inB_nat (by decide) h_b
      refine lv_iload_n hx hb dX7_setSignature_18 rfl (lv_at hl 3 rfl) ?_
      refine lv_iconst (v := nI 0) hx hb dX7_setSignature_19 (by decide) ?_
      refine lv_iconst (v := nI 5) hx hb dX7_setSignature_20 (by decide) ?_
      refine s_i (va_runS (As := [.int c9, .int (nI 0), .int (nI 5)]) (rest := []) ⟨hx, hb, hml, hown, hts⟩ (x7_in Z c9 (nI 0) (nI 5)) (va_cwS 3 hts (lw_S q2097 q2098 q107 q2099) rfl rfl rfl (by decide +kernel) ⟨Nat.le_of_ble_eq_true rfl, Nat.le_of_ble_eq_true rfl⟩) (gP_S hG hS (fun q _ h => h.elim) trivial) rfl rfl hl.1 rfl (lv_room (Nat.le_of_ble_eq_true rfl)) dX7_setSignature_21 ⟨by first | decide | omega, by first | decide | omega⟩) ?_
      refine lv_if_eq (tgt := 31) hx hb dX7_setSignature_24 (by decide) (fun c_24 => ?_) (fun c_24 => ?_)
      · have h_c9 := bI_0 c_24
        refine lv_iconst (v := nI 0) hx hb dX7_setSignature_31 (by decide) ?_
        refine lv_istore (lv' := [(4, .int (nI 0)), (0, .ref (o 0)), (1, .int (nI ja)), (2, .int (nI jb)), (3, .int c9)]) hx hb dX7_setSignature_32 hl (by decide) rfl (fun ls hl => ?_)
        refine lv_aload_n hx hb dX7_setSignature_34 rfl (lv_at hl 1 rfl) ?_
        refine lv_iload hx hb dX7_setSignature_35 (lv_at hl 0 rfl) ?_
        refine lv_if_eq (tgt := 57) hx hb dX7_setSignature_37 (by decide) (fun c_37 => ?_) (fun c_37 => ?_)
        rotate_left
        · exact absurd (by decide) c_37
        refine lv_iconst (v := nI 1) hx hb dX7_setSignature_57 (by decide) ?_
        refine va_put (D := (dC, dI)) (ci := 2) (v := .int (nI 1)) (ty := .int) (C := RX7) (T := TX7) (N := 27) hx hb hts in_X7 tyX7 tyX7_ok nmX7 hown hK hP hD hS 0 rfl rfl 0 (by decide) (hts _ q2006) (fun _ h9 => h9) rfl (by decide +kernel) rfl rfl (Nat.le_of_ble_eq_true rfl) dX7_setSignature_58 (fun H locs hP hD hS => ?_)
        have hP : va_P (dC, dI) vwCl [(o 0, .inr (2, mFs o (nI 1) p0 q0 r0 mu zz)), (o 5, .inl (dA 1, 2640, .inr (.inl fA)))] H := hP
        have hD : va_D A [(o 0, .inr (2, mFs o (nI 1) p0 q0 r0 mu zz)), (o 5, .inl (dA 1, 2640, .inr (.inl fA)))] := hD
        refine lv_aload_n hx hb dX7_setSignature_61 rfl (lv_at hl 1 rfl) ?_
        refine va_get (D := (dC, dI)) (ci := 2) (v := .int (nI 1)) (C := RX7) (T := TX7) (N := 27) hx hb hts in_X7 hown hK hP 0 rfl rfl 0 (by decide) (hts _ q2006) (fun _ h9 => h9) rfl dX7_setSignature_62 ?_
        refine lv_if_le (tgt := 70) hx hb dX7_setSignature_65 (by decide) (fun c_65 => ?_) (fun c_65 => ?_)
        · exact absurd c_65 (by decide)
        refine lv_iconst (v := nI 0) hx hb dX7_setSignature_68 (by decide) ?_
        subst hQe
        exact W.iret (v := nI 0) hx hb hr (fun tz ht hW => ⟨⟨_, (nI 1, p0, q0, r0, fA), rfl, Or.inr ⟨(by unfold ssB; simp [h_a, h_b, h_c9]), rfl, rfl⟩, B1_at ht (hP.sub [0, 1] rfl) (hD.sub [0, 1] (by decide) rfl) trivial⟩, hS.F ht⟩) hS.2.2 dX7_setSignature_69
      · have h_c9 := bI_1 c_24
        obtain ⟨jc, hj_c9, rfl⟩ := inB_nat (by decide) h_c9
        refine lv_iconst (v := nI 1) hx hb dX7_setSignature_27 (by decide) ?_
        refine lv_goto (tgt := 32) hx hb dX7_setSignature_28 (by decide) ?_
        refine lv_istore (lv' := [(4, .int (nI 1)), (0, .ref (o 0)), (1, .int (nI ja)), (2, .int (nI jb)), (3, .int (nI jc))]) hx hb dX7_setSignature_32 hl (by decide) rfl (fun ls hl => ?_)
        refine lv_aload_n hx hb dX7_setSignature_34 rfl (lv_at hl 1 rfl) ?_
        refine lv_iload hx hb dX7_setSignature_35 (lv_at hl 0 rfl) ?_
        refine lv_if_eq (tgt := 57) hx hb dX7_setSignature_37 (by decide) (fun c_37 => ?_) (fun c_37 => ?_)
        · exact absurd c_37 (by decide)
        refine lv_iload_n hx hb dX7_setSignature_40 rfl (lv_at hl 2 rfl) ?_
        refine lv_iload_n hx hb dX7_setSignature_41 rfl (lv_at hl 3 rfl) ?_
        refine lv_iadd hx hb dX7_setSignature_42 ?_
        refine e_i (y := nI (ja + jb)) (nI_add _ _) ?_
        refine lv_iload_n hx hb dX7_setSignature_43 rfl (lv_at hl 4 rfl) ?_
        refine lv_iadd hx hb dX7_setSignature_44 ?_
        refine e_i (y := nI (ja + jb + jc)) (nI_add _ _) ?_
        refine lv_iconst (v := nI 1) hx hb dX7_setSignature_45 (by decide) ?_
        refine lv_iconst (v := nI 5) hx hb dX7_setSignature_46 (by decide) ?_
        refine s_i (va_runS (As := [.int (nI (ja + jb + jc)), .int (nI 1), .int (nI 5)]) (rest := [.ref (o 0)]) ⟨hx, hb, hml, hown, hts⟩ (x7_in Z (nI (ja + jb + jc)) (nI 1) (nI 5)) (va_cwS 3 hts (lw_S q2097 q2098 q107 q2099) rfl rfl rfl (by decide +kernel) ⟨Nat.le_of_ble_eq_true rfl, Nat.le_of_ble_eq_true rfl⟩) (gP_S hG hS (fun q _ h => h.elim) trivial) rfl rfl hl.1 rfl (lv_room (Nat.le_of_ble_eq_true rfl)) dX7_setSignature_47 ⟨by first | decide | omega, by first | decide | omega⟩) ?_
        refine lv_if_eq (tgt := 57) hx hb dX7_setSignature_50 (by decide) (fun c_50 => ?_) (fun c_50 => ?_)
        · have h_w := bI_0 c_50
          refine lv_iconst (v := nI 1) hx hb dX7_setSignature_57 (by decide) ?_
          refine va_put (D := (dC, dI)) (ci := 2) (v := .int (nI 1)) (ty := .int) (C := RX7) (T := TX7) (N := 27) hx hb hts in_X7 tyX7 tyX7_ok nmX7 hown hK hP hD hS 0 rfl rfl 0 (by decide) (hts _ q2006) (fun _ h9 => h9) rfl (by decide +kernel) rfl rfl (Nat.le_of_ble_eq_true rfl) dX7_setSignature_58 (fun H locs hP hD hS => ?_)
          have hP : va_P (dC, dI) vwCl [(o 0, .inr (2, mFs o (nI 1) p0 q0 r0 mu zz)), (o 5, .inl (dA 1, 2640, .inr (.inl fA)))] H := hP
          have hD : va_D A [(o 0, .inr (2, mFs o (nI 1) p0 q0 r0 mu zz)), (o 5, .inl (dA 1, 2640, .inr (.inl fA)))] := hD
          refine lv_aload_n hx hb dX7_setSignature_61 rfl (lv_at hl 1 rfl) ?_
          refine va_get (D := (dC, dI)) (ci := 2) (v := .int (nI 1)) (C := RX7) (T := TX7) (N := 27) hx hb hts in_X7 hown hK hP 0 rfl rfl 0 (by decide) (hts _ q2006) (fun _ h9 => h9) rfl dX7_setSignature_62 ?_
          refine lv_if_le (tgt := 70) hx hb dX7_setSignature_65 (by decide) (fun c_65 => ?_) (fun c_65 => ?_)
          · exact absurd c_65 (by decide)
          refine lv_iconst (v := nI 0) hx hb dX7_setSignature_68 (by decide) ?_
          subst hQe
          exact W.iret (v := nI 0) hx hb hr (fun tz ht hW => ⟨⟨_, (nI 1, p0, q0, r0, fA), rfl, Or.inr ⟨(by unfold ssB; rw [nI_add, nI_add, h_w]; simp), rfl, rfl⟩, B1_at ht (hP.sub [0, 1] rfl) (hD.sub [0, 1] (by decide) rfl) trivial⟩, hS.F ht⟩) hS.2.2 dX7_setSignature_69
        · have h_w := bI_1 c_50
          obtain ⟨jw, hj_w, hjw⟩ := inB_nat (by decide) (inB_lo (by decide) h_w)
          have hjs : ja + jb + jc = jw := nI_inj2 (by omega) (by omega) hjw
          have hjs2 := inB_ge (by omega) (by decide) h_w
          refine lv_iconst (v := nI 0) hx hb dX7_setSignature_53 (by decide) ?_
          refine lv_goto (tgt := 58) hx hb dX7_setSignature_54 (by decide) ?_
          refine va_put (D := (dC, dI)) (ci := 2) (v := .int (nI 0)) (ty := .int) (C := RX7) (T := TX7) (N := 27) hx hb hts in_X7 tyX7 tyX7_ok nmX7 hown hK hP hD hS 0 rfl rfl 0 (by decide) (hts _ q2006) (fun _ h9 => h9) rfl (by decide +kernel) rfl rfl (Nat.le_of_ble_eq_true rfl) dX7_setSignature_58 (fun H locs hP hD hS => ?_)
          have hP : va_P (dC, dI) vwCl [(o 0, .inr (2, mFs o (nI 0) p0 q0 r0 mu zz)), (o 5, .inl (dA 1, 2640, .inr (.inl fA)))] H := hP
          have hD : va_D A [(o 0, .inr (2, mFs o (nI 0) p0 q0 r0 mu zz)), (o 5, .inl (dA 1, 2640, .inr (.inl fA)))] := hD
          refine lv_aload_n hx hb dX7_setSignature_61 rfl (lv_at hl 1 rfl) ?_
          refine va_get (D := (dC, dI)) (ci := 2) (v := .int (nI 0)) (C := RX7) (T := TX7) (N := 27) hx hb hts in_X7 hown hK hP 0 rfl rfl 0 (by decide) (hts _ q2006) (fun _ h9 => h9) rfl dX7_setSignature_62 ?_
          refine lv_if_le (tgt := 70) hx hb dX7_setSignature_65 (by decide) (fun c_65 => ?_) (fun c_65 => ?_)
          rotate_left
          · exact absurd (by decide) c_65
          refine lv_aload_n hx hb dX7_setSignature_70 rfl (lv_at hl 1 rfl) ?_
          refine lv_iload_n hx hb dX7_setSignature_71 rfl (lv_at hl 2 rfl) ?_
          refine va_put (D := (dC, dI)) (ci := 2) (v := .int (nI ja)) (ty := .int) (C := RX7) (T := TX7) (N := 27) hx hb hts in_X7 tyX7 tyX7_ok nmX7 hown hK hP hD hS 0 rfl rfl 1 (by decide) (hts _ q2007) (fun _ h9 => h9) rfl (by decide +kernel) rfl rfl (Nat.le_of_ble_eq_true rfl) dX7_setSignature_72 (fun H locs hP hD hS => ?_)
          have hP : va_P (dC, dI) vwCl [(o 0, .inr (2, mFs o (nI 0) ja q0 r0 mu zz)), (o 5, .inl (dA 1, 2640, .inr (.inl fA)))] H := hP
          have hD : va_D A [(o 0, .inr (2, mFs o (nI 0) ja q0 r0 mu zz)), (o 5, .inl (dA 1, 2640, .inr (.inl fA)))] := hD
          refine lv_aload_n hx hb dX7_setSignature_75 rfl (lv_at hl 1 rfl) ?_
          refine lv_iload_n hx hb dX7_setSignature_76 rfl (lv_at hl 3 rfl) ?_
          refine va_put (D := (dC, dI)) (ci := 2) (v := .int (nI jb)) (ty := .int) (C := RX7) (T := TX7) (N := 27) hx hb hts in_X7 tyX7 tyX7_ok nmX7 hown hK hP hD hS 0 rfl rfl 2 (by decide) (hts _ q2008) (fun _ h9 => h9) rfl (by decide +kernel) rfl rfl (Nat.le_of_ble_eq_true rfl) dX7_setSignature_77 (fun H locs hP hD hS => ?_)
          have hP : va_P (dC, dI) vwCl [(o 0, .inr (2, mFs o (nI 0) ja jb r0 mu zz)), (o 5, .inl (dA 1, 2640, .inr (.inl fA)))] H := hP
          have hD : va_D A [(o 0, .inr (2, mFs o (nI 0) ja jb r0 mu zz)), (o 5, .inl (dA 1, 2640, .inr (.inl fA)))] := hD
          refine lv_aload_n hx hb dX7_setSignature_80 rfl (lv_at hl 1 rfl) ?_
          refine lv_iload_n hx hb dX7_setSignature_81 rfl (lv_at hl 4 rfl) ?_
          refine va_put (D := (dC, dI)) (ci := 2) (v := .int (nI jc)) (ty := .int) (C := RX7) (T := TX7) (N := 27) hx hb hts in_X7 tyX7 tyX7_ok nmX7 hown hK hP hD hS 0 rfl rfl 3 (by decide) (hts _ q2009) (fun _ h9 => h9) rfl (by decide +kernel) rfl rfl (Nat.le_of_ble_eq_true rfl) dX7_setSignature_82 (fun H locs hP hD hS => ?_)
          have hP : va_P (dC, dI) vwCl [(o 0, .inr (2, mFs o (nI 0) ja jb jc mu zz)), (o 5, .inl (dA 1, 2640, .inr (.inl fA)))] H := hP
          have hD : va_D A [(o 0, .inr (2, mFs o (nI 0) ja jb jc mu zz)), (o 5, .inl (dA 1, 2640, .inr (.inl fA)))] := hD
          refine lv_iconst (v := nI 0) hx hb dX7_setSignature_85 (by decide) ?_
          refine lv_istore (lv' := [(5, .int (nI 0)), (4, .int (nI 1)), (0, .ref (o 0)), (1, .int (nI ja)), (2, .int (nI jb)), (3, .int (nI jc))]) hx hb dX7_setSignature_86 hl (by decide) rfl (fun ls hl => ?_)
          have loop_1 : ∀ (n9_1 : Nat) (k : Nat) (fB : Nat → Int64) (H : Heap) (locs : List Loc) (ls : Array Slot), 8 - k < n9_1 → (k ≤ 8) → (∀ j, j < k → Hold fB j (numM 0)) → (Kp fA fB (fun j => 8 ≤ j)) → va_P (dC, dI) vwCl [(o 0, .inr (2, mFs o (nI 0) ja jb jc mu zz)), (o 5, .inl (dA 1, 2640, .inr (.inl fB)))] H → va_D A [(o 0, .inr (2, mFs o (nI 0) ja jb jc mu zz)), (o 5, .inl (dA 1, 2640, .inr (.inl fB)))] → va_S A s.heap H locs → lv_has ls 6 [(0, .ref (o 0)), (1, .int (nI ja)), (2, .int (nI jb)), (3, .int (nI jc)), (4, .int (nI 1)), (5, .int (nI k))] → W p l e ({ frames := 3, cells := 0, slots := 0, locals := 180 } : Room) s m args below meth c H locs 0 0 Q (F0 m 88 ls []) := by
            intro n9_1
            induction n9_1 with
            | zero => intro k fB H locs ls hm_1; exact absurd hm_1 (Nat.not_lt_zero _)
            | succ n9_1 ih_1 =>
              intro k fB H locs ls hm_1 hk9 hE9 hK9 hP hD hS hl
              refine lv_iload hx hb dX7_setSignature_88 (lv_at hl 5 rfl) ?_
              refine lv_bipush (v := nI 8) hx hb dX7_setSignature_90 (by decide) ?_
              refine lv_icmp_ge (tgt := 107) hx hb dX7_setSignature_92 (by decide) (fun c_92 => ?_) (fun c_92 => ?_)
              · have c_92 : 8 ≤ k := (nI_leI (a := 8) (b := k) (by omega) (by omega)).mp c_92
                obtain rfl : k = 8 := by omega
                refine lv_aload_n hx hb dX7_setSignature_107 rfl (lv_at hl 0 rfl) ?_
                refine s_i (va_runV (As := []) (rest := []) ⟨hx, hb, hml, hown, hts⟩ (x7_full Z o (nI 0) ja jb jc mu zz (by omega)) (cwV 0 hts (lw_V q2147 q2149 qs43 q107 q2150) rfl rfl rfl (by decide +kernel) ⟨Nat.le_of_ble_eq_true rfl, Nat.le_of_ble_eq_true rfl⟩) (gP_V (va_recv hK hP (ci := 2) (q0 := 0) rfl rfl) hG hS (fun q _ h => h.elim) (hP.sub (ws' := [(o 0, .inr (2, mFs o (nI 0) ja jb jc mu zz))]) [0] rfl)) rfl rfl hl.1 rfl (lv_room (Nat.le_of_ble_eq_true rfl)) dX7_setSignature_108 ⟨by first | decide | omega, by first | decide | omega⟩) ?_
                refine lv_iconst (v := nI 1) hx hb dX7_setSignature_111 (by decide) ?_
                refine lv_iadd hx hb dX7_setSignature_112 ?_
                refine e_i (y := nI (2 ^ (ja + jb + jc) - 1 + 1)) (nI_add _ _) ?_
                refine e_i (y := nI (2 ^ (ja + jb + jc))) (n_eq (by have := Nat.two_pow_pos (ja + jb + jc); omega)) ?_
                subst hQe
                exact W.iret (v := nI (2 ^ (ja + jb + jc))) hx hb hr (fun tz ht hW => ⟨⟨_, (nI 0, ja, jb, jc, fB), rfl, Or.inl ⟨(by unfold ssB; rw [h_a, h_b, h_c9, nI_add, nI_add, h_w]; rfl), rfl, rfl, rfl, rfl, hjs2, Nat.le_trans (Nat.le_of_eq hjs) hj_w, rfl, hE9, hK9⟩, B1_at ht (hP.sub [0, 1] rfl) (hD.sub [0, 1] (by decide) rfl) trivial⟩, hS.F ht⟩) hS.2.2 dX7_setSignature_113
              · have c_92 : ¬ 8 ≤ k := fun h => c_92 ((nI_leI (a := 8) (b := k) (by omega) (by omega)).mpr h)
                refine lv_aload_n hx hb dX7_setSignature_95 rfl (lv_at hl 0 rfl) ?_
                refine lv_iload hx hb dX7_setSignature_96 (lv_at hl 5 rfl) ?_
                have hF9 := va_free (wc := [(o 0, .inr (2, mFs o (nI 0) ja jb jc mu zz)), (o 5, .inl (dA 1, 2640, .inr (.inl fB)))]) hD hS (fun q h => hA q h) [0, 1] rfl
                refine c_v (wr := []) (va_runV (As := [.int (nI k)]) (rest := []) ⟨hx, hb, hml, hown, hts⟩ (x7_empties Z (va_A [(o 0, .inr (2, mFs o (nI 0) ja jb jc mu zz)), (o 5, .inl (dA 1, 2640, .inr (.inl fB)))] H.size) H.size (fun q h => Or.inr h) o (nI 0) ja jb jc mu zz fB (fun _ => 0) k (by omega)) (cwV 1 hts (lw_V q2221 q2223 qs54 q107 q2224) rfl rfl rfl (by decide +kernel) ⟨Nat.le_of_ble_eq_true rfl, Nat.le_of_ble_eq_true rfl⟩) (gP_V (va_recv hK hP (ci := 2) (q0 := 0) rfl rfl) hG hS (fun q _ h => hF9 q h) ⟨rfl, (hP.sub (ws' := [(o 0, .inr (2, mFs o (nI 0) ja jb jc mu zz)), (o 5, .inl (dA 1, 2640, .inr (.inl fB)))]) [0, 1] rfl), (hD.sub (ws' := [(o 0, .inr (2, mFs o (nI 0) ja jb jc mu zz)), (o 5, .inl (dA 1, 2640, .inr (.inl fB)))]) [0, 1] (by decide) rfl).self⟩) rfl rfl hl.1 rfl (lv_room (Nat.le_of_ble_eq_true rfl)) dX7_setSignature_98 ⟨by first | decide | omega, by first | decide | omega⟩) hP hD hS hA [0, 1] [] rfl rfl (by decide) (by decide) (fun u9 H locs hq hX hz hk hP hD hS => ?_)
                obtain ⟨fA_2, rfl⟩ : ∃ z, z = u9 := ⟨_, rfl⟩
                have hq_3 := hq
                have hP : va_P (dC, dI) vwCl [(o 0, .inr (2, mFs o (nI 0) ja jb jc mu zz)), (o 5, .inl (dA 1, 2640, .inr (.inl fA_2)))] H := hP
                have hD : va_D A [(o 0, .inr (2, mFs o (nI 0) ja jb jc mu zz)), (o 5, .inl (dA 1, 2640, .inr (.inl fA_2)))] := hD
                obtain ⟨hH_k_4, hS_k_4⟩ := hq_3
                have hH9 := hH_k_4
                have hS9 := hS_k_4
                have hE8 : ∀ j, j < k + 1 → Hold fA_2 j (numM 0) := fun j hj => by
                  by_cases e9 : j = k
                  · subst e9; exact hH9
                  · exact hS9.hold e9 (hE9 j (by omega))
                have hF8 : Kp fA fA_2 (fun j => 8 ≤ j) := fun j hj i hi => by
                  have hj : 8 ≤ j := hj
                  rw [hS9 _ (by omega)]; exact hK9 j hj i hi
                refine lv_iinc (v := nI (k + 1)) (lv' := [(5, .int (nI (k + 1))), (0, .ref (o 0)), (1, .int (nI ja)), (2, .int (nI jb)), (3, .int (nI jc)), (4, .int (nI 1))]) hx hb dX7_setSignature_101 hl (k := 5) rfl (by exact nI_add _ 1) (by decide) rfl (fun ls hl => ?_)
                refine lv_goto (tgt := 88) hx hb dX7_setSignature_104 (by decide) ?_
                exact ih_1 (k + 1) fA_2 H locs ls (by omega) (by omega) hE8 hF8 (hP.sub [0, 1] rfl) (hD.sub [0, 1] (by decide) rfl) hS (lv_sub hl [1, 2, 3, 4, 5, 0] rfl)
          exact loop_1 _ 0 fA H locs ls (Nat.lt_succ_self _) (by omega) (fun j h => absurd h (Nat.not_lt_zero _)) (fun k9 hk9 i9 hi9 => rfl) hP hD hS (lv_sub hl [2, 3, 4, 5, 1, 0] rfl)
set_option maxHeartbeats 4000000 in
theorem x7_save {l : Launch} {dC : Nat → ClassId} {dI : Nat → Nat → Nat} {dA : Nat → ClassId} {s0 : State} {b0 : Addr} (Z : Z0 l dC dI dA s0 b0) (A : Nat → Prop) (sz : Nat) (hA : ∀ q : Nat, sz ≤ q → A q) (o : Nat → Nat) (th : Int32) (p0 q0 r0 : Nat) (mu : Int64) (zz : Nat → Int32) (fA : Nat → Int64) (pp qq rr : Nat → Nat) (sv : Nat → Bool) (i : Int32) : Met l yX7_save (ws_ yX7_save cX7_save 3 none) ({ frames := 2, cells := 0, slots := 0, locals := 120 } : Room) (gP [.ref (o 0), .int i] s0 A (fun H => H.size = sz ∧ va_P (dC, dI) vwCl [(o 0, .inr (2, mFs o th p0 q0 r0 mu zz)), (o 5, .inl (dA 1, 2640, .inr (.inl fA))), (o 1, .inl (dA 0, 2, .inl (fun j => nI (pp j)))), (o 2, .inl (dA 0, 2, .inl (fun j => nI (qq j)))), (o 3, .inl (dA 0, 2, .inl (fun j => nI (rr j)))), (o 4, .inl (dA 3, 2, .inl (fun j => bI (sv j))))] H ∧ va_D A [(o 0, .inr (2, mFs o th p0 q0 r0 mu zz)), (o 5, .inl (dA 1, 2640, .inr (.inl fA))), (o 1, .inl (dA 0, 2, .inl (fun j => nI (pp j)))), (o 2, .inl (dA 0, 2, .inl (fun j => nI (qq j)))), (o 3, .inl (dA 0, 2, .inl (fun j => nI (rr j)))), (o 4, .inl (dA 3, 2, .inl (fun j => bI (sv j))))])) (va_Qv (S := Int32 × (Nat → Int64) × (Nat → Int32) × (Nat → Int32) × (Nat → Int32) × (Nat → Int32)) (fun u => (inB i (nI 0) (nI 1) = true ∧ ∃ ji, ji < 2 ∧ i = nI ji ∧ u.1 = nI 0 ∧ u.2.2.1 = (fun j => nI (updN pp ji p0 j)) ∧ u.2.2.2.1 = (fun j => nI (updN qq ji q0 j)) ∧ u.2.2.2.2.1 = (fun j => nI (updN rr ji r0 j)) ∧ u.2.2.2.2.2 = (fun j => bI (updN sv ji true j)) ∧ (∀ j, j < 8 → ∀ i, i < 33 → u.2.1 (33 * (8 + 8 * ji + j) + i) = fA (33 * j + i)) ∧ Kp fA u.2.1 (fun j => j < 8 + 8 * ji ∨ 16 + 8 * ji ≤ j)) ∨ (inB i (nI 0) (nI 1) = false ∧ u = (nI 1, fA, (fun j => nI (pp j)), (fun j => nI (qq j)), (fun j => nI (rr j)), (fun j => bI (sv j))))) (B1 (dC, dI) A (fun u => [(o 0, .inr (2, mFs o u.1 p0 q0 r0 mu zz)), (o 5, .inl (dA 1, 2640, .inr (.inl u.2.1))), (o 1, .inl (dA 0, 2, .inl u.2.2.1)), (o 2, .inl (dA 0, 2, .inl u.2.2.2.1)), (o 3, .inl (dA 0, 2, .inl u.2.2.2.2.1)), (o 4, .inl (dA 3, 2, .inl u.2.2.2.2.2))]) (fun _ _ => True)) A) 0 0 A := by
  refine Met.ofW (cc := cX7_save) (maxL := 3) (ret := none) (by decide) rfl ?_
  intro p e s m args below meth c s₁ B hml hv
  obtain ⟨hav, hG, hsz, hP, hD⟩ := hv
  have hx := B.exec
  have hb := B.bytes
  have hr := B.returns
  have hts := atoms_spec (ws := (ws_ yX7_save cX7_save 3 none)) B.pre
  have hts : ∀ w ∈ lw_all, w.before _ s = true := fun w h => hts w (List.mem_cons_of_mem _ h)
  have hown : s.vm.findClass RX7 = some m.cls := findClass_of_methodNamed B.named
  have hlocks := B.notSynchronized
  have hK := hG.K Z
  subst hsz
  have hS : va_S A s.heap s.heap [] := va_S.rf
  have hl := lv_entry ([.ref (o 0), .int i]) (n := 3) (Nat.le_of_ble_eq_true rfl)
  rw [show entryFrame m args 3 = entryFrame m ([.ref (o 0), .int i] : List Value).toArray 3 from by rw [hav], lg_entry_eq]
  generalize (lg_sl ([.ref (o 0), .int i]) ++ List.replicate (3 - (lg_sl ([.ref (o 0), .int i])).length) Slot.unset).toArray = ls at hl ⊢
  have hl : lv_has ls 3 [(0, .ref (o 0)), (1, .int i)] := hl
  generalize hQe : MQ below _ _ s _ _ _ = Q
  change W p l e ({ frames := 2, cells := 0, slots := 0, locals := 120 } : Room) s m args below meth c s.heap [] 0 0 Q (F0 m 0 ls [])
  refine lv_aload_n hx hb dX7_save_0 rfl (lv_at hl 0 rfl) ?_
  refine lv_iload_n hx hb dX7_save_1 rfl (lv_at hl 1 rfl) ?_
  refine lv_iconst (v := nI 0) hx hb dX7_save_2 (by decide) ?_
  refine lv_iconst (v := nI 1) hx hb dX7_save_3 (by decide) ?_
  refine s_i (va_runS (As := [.int i, .int (nI 0), .int (nI 1)]) (rest := [.ref (o 0)]) ⟨hx, hb, hml, hown, hts⟩ (x7_in Z i (nI 0) (nI 1)) (va_cwS 3 hts (lw_S q2097 q2098 q107 q2099) rfl rfl rfl (by decide +kernel) ⟨Nat.le_of_ble_eq_true rfl, Nat.le_of_ble_eq_true rfl⟩) (gP_S hG hS (fun q _ h => h.elim) trivial) rfl rfl hl.1 rfl (lv_room (Nat.le_of_ble_eq_true rfl)) dX7_save_4 ⟨by first | decide | omega, by first | decide | omega⟩) ?_
  refine lv_if_eq (tgt := 14) hx hb dX7_save_7 (by decide) (fun c_7 => ?_) (fun c_7 => ?_)
  · have h_i := bI_0 c_7
    refine lv_iconst (v := nI 1) hx hb dX7_save_14 (by decide) ?_
    refine va_put (D := (dC, dI)) (ci := 2) (v := .int (nI 1)) (ty := .int) (C := RX7) (T := TX7) (N := 27) hx hb hts in_X7 tyX7 tyX7_ok nmX7 hown hK hP hD hS 0 rfl rfl 0 (by decide) (hts _ q2006) (fun _ h9 => h9) rfl (by decide +kernel) rfl rfl (Nat.le_of_ble_eq_true rfl) dX7_save_15 (fun H locs hP hD hS => ?_)
    have hP : va_P (dC, dI) vwCl [(o 0, .inr (2, mFs o (nI 1) p0 q0 r0 mu zz)), (o 5, .inl (dA 1, 2640, .inr (.inl fA))), (o 1, .inl (dA 0, 2, .inl (fun j => nI (pp j)))), (o 2, .inl (dA 0, 2, .inl (fun j => nI (qq j)))), (o 3, .inl (dA 0, 2, .inl (fun j => nI (rr j)))), (o 4, .inl (dA 3, 2, .inl (fun j => bI (sv j))))] H := hP
    have hD : va_D A [(o 0, .inr (2, mFs o (nI 1) p0 q0 r0 mu zz)), (o 5, .inl (dA 1, 2640, .inr (.inl fA))), (o 1, .inl (dA 0, 2, .inl (fun j => nI (pp j)))), (o 2, .inl (dA 0, 2, .inl (fun j => nI (qq j)))), (o 3, .inl (dA 0, 2, .inl (fun j => nI (rr j)))), (o 4, .inl (dA 3, 2, .inl (fun j => bI (sv j))))] := hD
    refine lv_aload_n hx hb dX7_save_18 rfl (lv_at hl 0 rfl) ?_
    refine va_get (D := (dC, dI)) (ci := 2) (v := .int (nI 1)) (C := RX7) (T := TX7) (N := 27) hx hb hts in_X7 hown hK hP 0 rfl rfl 0 (by decide) (hts _ q2006) (fun _ h9 => h9) rfl dX7_save_19 ?_
    refine lv_if_le (tgt := 26) hx hb dX7_save_22 (by decide) (fun c_22 => ?_) (fun c_22 => ?_)
    · exact absurd c_22 (by decide)
    subst hQe
    exact W.vret hx hb hr (fun tz ht hW => ⟨⟨(nI 1, fA, fun j => nI (pp j), fun j => nI (qq j), fun j => nI (rr j), fun j => bI (sv j)), rfl, Or.inr ⟨h_i, rfl⟩, B1_at ht (hP.sub [0, 1, 2, 3, 4, 5] rfl) (hD.sub [0, 1, 2, 3, 4, 5] (by decide) rfl) trivial⟩, hS.F ht⟩) hS.2.2 dX7_save_25
  · have h_i := bI_1 c_7
    obtain ⟨ji, hji, rfl⟩ := inB_nat (by decide) h_i
    refine lv_iconst (v := nI 0) hx hb dX7_save_10 (by decide) ?_
    refine lv_goto (tgt := 15) hx hb dX7_save_11 (by decide) ?_
    refine va_put (D := (dC, dI)) (ci := 2) (v := .int (nI 0)) (ty := .int) (C := RX7) (T := TX7) (N := 27) hx hb hts in_X7 tyX7 tyX7_ok nmX7 hown hK hP hD hS 0 rfl rfl 0 (by decide) (hts _ q2006) (fun _ h9 => h9) rfl (by decide +kernel) rfl rfl (Nat.le_of_ble_eq_true rfl) dX7_save_15 (fun H locs hP hD hS => ?_)
    have hP : va_P (dC, dI) vwCl [(o 0, .inr (2, mFs o (nI 0) p0 q0 r0 mu zz)), (o 5, .inl (dA 1, 2640, .inr (.inl fA))), (o 1, .inl (dA 0, 2, .inl (fun j => nI (pp j)))), (o 2, .inl (dA 0, 2, .inl (fun j => nI (qq j)))), (o 3, .inl (dA 0, 2, .inl (fun j => nI (rr j)))), (o 4, .inl (dA 3, 2, .inl (fun j => bI (sv j))))] H := hP
    have hD : va_D A [(o 0, .inr (2, mFs o (nI 0) p0 q0 r0 mu zz)), (o 5, .inl (dA 1, 2640, .inr (.inl fA))), (o 1, .inl (dA 0, 2, .inl (fun j => nI (pp j)))), (o 2, .inl (dA 0, 2, .inl (fun j => nI (qq j)))), (o 3, .inl (dA 0, 2, .inl (fun j => nI (rr j)))), (o 4, .inl (dA 3, 2, .inl (fun j => bI (sv j))))] := hD
    refine lv_aload_n hx hb dX7_save_18 rfl (lv_at hl 0 rfl) ?_
    refine va_get (D := (dC, dI)) (ci := 2) (v := .int (nI 0)) (C := RX7) (T := TX7) (N := 27) hx hb hts in_X7 hown hK hP 0 rfl rfl 0 (by decide) (hts _ q2006) (fun _ h9 => h9) rfl dX7_save_19 ?_
    refine lv_if_le (tgt := 26) hx hb dX7_save_22 (by decide) (fun c_22 => ?_) (fun c_22 => ?_)
    rotate_left
    · exact absurd (by decide) c_22
    refine lv_iconst (v := nI 0) hx hb dX7_save_26 (by decide) ?_
    refine lv_istore_n (lv' := [(2, .int (nI 0)), (0, .ref (o 0)), (1, .int (nI ji))]) hx hb dX7_save_27 rfl hl (by decide) rfl (fun ls hl => ?_)
    have loop_1 : ∀ (n9_1 : Nat) (k : Nat) (fB : Nat → Int64) (H : Heap) (locs : List Loc) (ls : Array Slot), 8 - k < n9_1 → (k ≤ 8) → (∀ j, j < k → ∀ i, i < 33 → fB (33 * (8 + 8 * ji + j) + i) = fA (33 * j + i)) → (Kp fA fB (fun j => j < 8 + 8 * ji ∨ 16 + 8 * ji ≤ j)) → va_P (dC, dI) vwCl [(o 0, .inr (2, mFs o (nI 0) p0 q0 r0 mu zz)), (o 5, .inl (dA 1, 2640, .inr (.inl fB))), (o 1, .inl (dA 0, 2, .inl (fun j => nI (pp j)))), (o 2, .inl (dA 0, 2, .inl (fun j => nI (qq j)))), (o 3, .inl (dA 0, 2, .inl (fun j => nI (rr j)))), (o 4, .inl (dA 3, 2, .inl (fun j => bI (sv j))))] H → va_D A [(o 0, .inr (2, mFs o (nI 0) p0 q0 r0 mu zz)), (o 5, .inl (dA 1, 2640, .inr (.inl fB))), (o 1, .inl (dA 0, 2, .inl (fun j => nI (pp j)))), (o 2, .inl (dA 0, 2, .inl (fun j => nI (qq j)))), (o 3, .inl (dA 0, 2, .inl (fun j => nI (rr j)))), (o 4, .inl (dA 3, 2, .inl (fun j => bI (sv j))))] → va_S A s.heap H locs → lv_has ls 3 [(0, .ref (o 0)), (1, .int (nI ji)), (2, .int (nI k))] → W p l e ({ frames := 2, cells := 0, slots := 0, locals := 120 } : Room) s m args below meth c H locs 0 0 Q (F0 m 28 ls []) := by
      intro n9_1
      induction n9_1 with
      | zero => intro k fB H locs ls hm_1; exact absurd hm_1 (Nat.not_lt_zero _)
      | succ n9_1 ih_1 =>
        intro k fB H locs ls hm_1 hk9 hE9 hK9 hP hD hS hl
        refine lv_iload_n hx hb dX7_save_28 rfl (lv_at hl 2 rfl) ?_
        refine lv_bipush (v := nI 8) hx hb dX7_save_29 (by decide) ?_
        refine lv_icmp_ge (tgt := 54) hx hb dX7_save_31 (by decide) (fun c_31 => ?_) (fun c_31 => ?_)
        · have c_31 : 8 ≤ k := (nI_leI (a := 8) (b := k) (by omega) (by omega)).mp c_31
          obtain rfl : k = 8 := by omega
          refine lv_aload_n hx hb dX7_save_54 rfl (lv_at hl 0 rfl) ?_
          refine va_get (D := (dC, dI)) (ci := 2) (v := .ref (o 1)) (C := RX7) (T := TX7) (N := 27) hx hb hts in_X7 hown hK hP 0 rfl rfl 4 (by decide) (hts _ q2010) (fun _ h9 => h9) rfl dX7_save_55 ?_
          refine lv_iload_n hx hb dX7_save_58 rfl (lv_at hl 1 rfl) ?_
          refine lv_aload_n hx hb dX7_save_59 rfl (lv_at hl 0 rfl) ?_
          refine va_get (D := (dC, dI)) (ci := 2) (v := .int (nI p0)) (C := RX7) (T := TX7) (N := 27) hx hb hts in_X7 hown hK hP 0 rfl rfl 1 (by decide) (hts _ q2007) (fun _ h9 => h9) rfl dX7_save_60 ?_
          refine a_iast hx hb hK hP hD hS 2 0 rfl rfl (by omega) (by omega) dX7_save_63 (fun H locs hP hD hS => ?_)
          have hP : va_P (dC, dI) vwCl [(o 0, .inr (2, mFs o (nI 0) p0 q0 r0 mu zz)), (o 5, .inl (dA 1, 2640, .inr (.inl fB))), (o 1, .inl (dA 0, 2, .inl (upd (fun j => nI (pp j)) ji (nI p0)))), (o 2, .inl (dA 0, 2, .inl (fun j => nI (qq j)))), (o 3, .inl (dA 0, 2, .inl (fun j => nI (rr j)))), (o 4, .inl (dA 3, 2, .inl (fun j => bI (sv j))))] H := hP
          have hD : va_D A [(o 0, .inr (2, mFs o (nI 0) p0 q0 r0 mu zz)), (o 5, .inl (dA 1, 2640, .inr (.inl fB))), (o 1, .inl (dA 0, 2, .inl (upd (fun j => nI (pp j)) ji (nI p0)))), (o 2, .inl (dA 0, 2, .inl (fun j => nI (qq j)))), (o 3, .inl (dA 0, 2, .inl (fun j => nI (rr j)))), (o 4, .inl (dA 3, 2, .inl (fun j => bI (sv j))))] := hD
          refine lv_aload_n hx hb dX7_save_64 rfl (lv_at hl 0 rfl) ?_
          refine va_get (D := (dC, dI)) (ci := 2) (v := .ref (o 2)) (C := RX7) (T := TX7) (N := 27) hx hb hts in_X7 hown hK hP 0 rfl rfl 5 (by decide) (hts _ q2011) (fun _ h9 => h9) rfl dX7_save_65 ?_
          refine lv_iload_n hx hb dX7_save_68 rfl (lv_at hl 1 rfl) ?_
          refine lv_aload_n hx hb dX7_save_69 rfl (lv_at hl 0 rfl) ?_
          refine va_get (D := (dC, dI)) (ci := 2) (v := .int (nI q0)) (C := RX7) (T := TX7) (N := 27) hx hb hts in_X7 hown hK hP 0 rfl rfl 2 (by decide) (hts _ q2008) (fun _ h9 => h9) rfl dX7_save_70 ?_
          refine a_iast hx hb hK hP hD hS 3 0 rfl rfl (by omega) (by omega) dX7_save_73 (fun H locs hP hD hS => ?_)
          have hP : va_P (dC, dI) vwCl [(o 0, .inr (2, mFs o (nI 0) p0 q0 r0 mu zz)), (o 5, .inl (dA 1, 2640, .inr (.inl fB))), (o 1, .inl (dA 0, 2, .inl (upd (fun j => nI (pp j)) ji (nI p0)))), (o 2, .inl (dA 0, 2, .inl (upd (fun j => nI (qq j)) ji (nI q0)))), (o 3, .inl (dA 0, 2, .inl (fun j => nI (rr j)))), (o 4, .inl (dA 3, 2, .inl (fun j => bI (sv j))))] H := hP
          have hD : va_D A [(o 0, .inr (2, mFs o (nI 0) p0 q0 r0 mu zz)), (o 5, .inl (dA 1, 2640, .inr (.inl fB))), (o 1, .inl (dA 0, 2, .inl (upd (fun j => nI (pp j)) ji (nI p0)))), (o 2, .inl (dA 0, 2, .inl (upd (fun j => nI (qq j)) ji (nI q0)))), (o 3, .inl (dA 0, 2, .inl (fun j => nI (rr j)))), (o 4, .inl (dA 3, 2, .inl (fun j => bI (sv j))))] := hD
          refine lv_aload_n hx hb dX7_save_74 rfl (lv_at hl 0 rfl) ?_
          refine va_get (D := (dC, dI)) (ci := 2) (v := .ref (o 3)) (C := RX7) (T := TX7) (N := 27) hx hb hts in_X7 hown hK hP 0 rfl rfl 6 (by decide) (hts _ q2012) (fun _ h9 => h9) rfl dX7_save_75 ?_
          refine lv_iload_n hx hb dX7_save_78 rfl (lv_at hl 1 rfl) ?_
          refine lv_aload_n hx hb dX7_save_79 rfl (lv_at hl 0 rfl) ?_
          refine va_get (D := (dC, dI)) (ci := 2) (v := .int (nI r0)) (C := RX7) (T := TX7) (N := 27) hx hb hts in_X7 hown hK hP 0 rfl rfl 3 (by decide) (hts _ q2009) (fun _ h9 => h9) rfl dX7_save_80 ?_
          refine a_iast hx hb hK hP hD hS 4 0 rfl rfl (by omega) (by omega) dX7_save_83 (fun H locs hP hD hS => ?_)
          have hP : va_P (dC, dI) vwCl [(o 0, .inr (2, mFs o (nI 0) p0 q0 r0 mu zz)), (o 5, .inl (dA 1, 2640, .inr (.inl fB))), (o 1, .inl (dA 0, 2, .inl (upd (fun j => nI (pp j)) ji (nI p0)))), (o 2, .inl (dA 0, 2, .inl (upd (fun j => nI (qq j)) ji (nI q0)))), (o 3, .inl (dA 0, 2, .inl (upd (fun j => nI (rr j)) ji (nI r0)))), (o 4, .inl (dA 3, 2, .inl (fun j => bI (sv j))))] H := hP
          have hD : va_D A [(o 0, .inr (2, mFs o (nI 0) p0 q0 r0 mu zz)), (o 5, .inl (dA 1, 2640, .inr (.inl fB))), (o 1, .inl (dA 0, 2, .inl (upd (fun j => nI (pp j)) ji (nI p0)))), (o 2, .inl (dA 0, 2, .inl (upd (fun j => nI (qq j)) ji (nI q0)))), (o 3, .inl (dA 0, 2, .inl (upd (fun j => nI (rr j)) ji (nI r0)))), (o 4, .inl (dA 3, 2, .inl (fun j => bI (sv j))))] := hD
          refine lv_aload_n hx hb dX7_save_84 rfl (lv_at hl 0 rfl) ?_
          refine va_get (D := (dC, dI)) (ci := 2) (v := .ref (o 4)) (C := RX7) (T := TX7) (N := 27) hx hb hts in_X7 hown hK hP 0 rfl rfl 7 (by decide) (hts _ q2013) (fun _ h9 => h9) rfl dX7_save_85 ?_
          refine lv_iload_n hx hb dX7_save_88 rfl (lv_at hl 1 rfl) ?_
          refine lv_iconst (v := nI 1) hx hb dX7_save_89 (by decide) ?_
          refine a_zast hx hb hK hP hD hS 5 3 rfl rfl (by omega) (by omega) dX7_save_90 (fun H locs hP hD hS => ?_)
          have hP : va_P (dC, dI) vwCl [(o 0, .inr (2, mFs o (nI 0) p0 q0 r0 mu zz)), (o 5, .inl (dA 1, 2640, .inr (.inl fB))), (o 1, .inl (dA 0, 2, .inl (upd (fun j => nI (pp j)) ji (nI p0)))), (o 2, .inl (dA 0, 2, .inl (upd (fun j => nI (qq j)) ji (nI q0)))), (o 3, .inl (dA 0, 2, .inl (upd (fun j => nI (rr j)) ji (nI r0)))), (o 4, .inl (dA 3, 2, .inl (upd (fun j => bI (sv j)) ji (vp_nar .boolean (nI 1)))))] H := hP
          have hD : va_D A [(o 0, .inr (2, mFs o (nI 0) p0 q0 r0 mu zz)), (o 5, .inl (dA 1, 2640, .inr (.inl fB))), (o 1, .inl (dA 0, 2, .inl (upd (fun j => nI (pp j)) ji (nI p0)))), (o 2, .inl (dA 0, 2, .inl (upd (fun j => nI (qq j)) ji (nI q0)))), (o 3, .inl (dA 0, 2, .inl (upd (fun j => nI (rr j)) ji (nI r0)))), (o 4, .inl (dA 3, 2, .inl (upd (fun j => bI (sv j)) ji (vp_nar .boolean (nI 1)))))] := hD
          subst hQe
          exact W.vret hx hb hr (fun tz ht hW => ⟨⟨(nI 0, fB, upd (fun j => nI (pp j)) ji (nI p0), upd (fun j => nI (qq j)) ji (nI q0), upd (fun j => nI (rr j)) ji (nI r0), upd (fun j => bI (sv j)) ji (vp_nar .boolean (nI 1))), rfl, Or.inl ⟨h_i, ji, by omega, rfl, rfl, updN_I _ _ _, updN_I _ _ _, updN_I _ _ _, updB_I _ _ _, hE9, hK9⟩, B1_at ht (hP.sub [0, 1, 2, 3, 4, 5] rfl) (hD.sub [0, 1, 2, 3, 4, 5] (by decide) rfl) trivial⟩, hS.F ht⟩) hS.2.2 dX7_save_91
        · have c_31 : ¬ 8 ≤ k := fun h => c_31 ((nI_leI (a := 8) (b := k) (by omega) (by omega)).mpr h)
          refine lv_aload_n hx hb dX7_save_34 rfl (lv_at hl 0 rfl) ?_
          refine lv_iload_n hx hb dX7_save_35 rfl (lv_at hl 2 rfl) ?_
          refine lv_bipush (v := nI 8) hx hb dX7_save_36 (by decide) ?_
          refine lv_bipush (v := nI 8) hx hb dX7_save_38 (by decide) ?_
          refine lv_iload_n hx hb dX7_save_40 rfl (lv_at hl 1 rfl) ?_
          refine lv_imul hx hb dX7_save_41 ?_
          refine e_i (y := nI (8 * ji)) (pk_mul _ _) ?_
          refine lv_iadd hx hb dX7_save_42 ?_
          refine e_i (y := nI (8 + (8 * ji))) (nI_add _ _) ?_
          refine lv_iload_n hx hb dX7_save_43 rfl (lv_at hl 2 rfl) ?_
          refine lv_iadd hx hb dX7_save_44 ?_
          refine e_i (y := nI (8 + (8 * ji) + k)) (nI_add _ _) ?_
          have hF9 := va_free (wc := [(o 0, .inr (2, mFs o (nI 0) p0 q0 r0 mu zz)), (o 5, .inl (dA 1, 2640, .inr (.inl fB)))]) hD hS (fun q h => hA q h) [0, 1] rfl
          refine c_v (wr := [(o 1, .inl (dA 0, 2, .inl (fun j => nI (pp j)))), (o 2, .inl (dA 0, 2, .inl (fun j => nI (qq j)))), (o 3, .inl (dA 0, 2, .inl (fun j => nI (rr j)))), (o 4, .inl (dA 3, 2, .inl (fun j => bI (sv j))))]) (va_runV (As := [.int (nI k), .int (nI (8 + (8 * ji) + k))]) (rest := []) ⟨hx, hb, hml, hown, hts⟩ (x7_copies Z (va_A [(o 0, .inr (2, mFs o (nI 0) p0 q0 r0 mu zz)), (o 5, .inl (dA 1, 2640, .inr (.inl fB)))] H.size) H.size (fun q h => Or.inr h) o (nI 0) p0 q0 r0 mu zz fB (fun _ => 0) k (8 + (8 * ji) + k) (by omega) (by omega)) (cwV 2 hts (lw_V q2185 q2187 qs49 q107 q2188) rfl rfl rfl (by decide +kernel) ⟨Nat.le_of_ble_eq_true rfl, Nat.le_of_ble_eq_true rfl⟩) (gP_V (va_recv hK hP (ci := 2) (q0 := 0) rfl rfl) hG hS (fun q _ h => hF9 q h) ⟨rfl, (hP.sub (ws' := [(o 0, .inr (2, mFs o (nI 0) p0 q0 r0 mu zz)), (o 5, .inl (dA 1, 2640, .inr (.inl fB)))]) [0, 1] rfl), (hD.sub (ws' := [(o 0, .inr (2, mFs o (nI 0) p0 q0 r0 mu zz)), (o 5, .inl (dA 1, 2640, .inr (.inl fB)))]) [0, 1] (by decide) rfl).self⟩) rfl rfl hl.1 rfl (lv_room (Nat.le_of_ble_eq_true rfl)) dX7_save_45 ⟨by first | decide | omega, by first | decide | omega⟩) hP hD hS hA [0, 1] [2, 3, 4, 5] rfl rfl (by decide) (by decide) (fun u9 H locs hq hX hz hk hP hD hS => ?_)
          have hP : va_P (dC, dI) vwCl [(o 1, .inl (dA 0, 2, .inl (fun j => nI (pp j)))), (o 2, .inl (dA 0, 2, .inl (fun j => nI (qq j)))), (o 3, .inl (dA 0, 2, .inl (fun j => nI (rr j)))), (o 4, .inl (dA 3, 2, .inl (fun j => bI (sv j)))), (o 0, .inr (2, mFs o (nI 0) p0 q0 r0 mu zz)), (o 5, .inl (dA 1, 2640, .inr (.inl (cpS fB k (8 + (8 * ji) + k)))))] H := hP
          have hD : va_D A [(o 1, .inl (dA 0, 2, .inl (fun j => nI (pp j)))), (o 2, .inl (dA 0, 2, .inl (fun j => nI (qq j)))), (o 3, .inl (dA 0, 2, .inl (fun j => nI (rr j)))), (o 4, .inl (dA 3, 2, .inl (fun j => bI (sv j)))), (o 0, .inr (2, mFs o (nI 0) p0 q0 r0 mu zz)), (o 5, .inl (dA 1, 2640, .inr (.inl (cpS fB k (8 + (8 * ji) + k)))))] := hD
          refine lv_iinc (v := nI (k + 1)) (lv' := [(2, .int (nI (k + 1))), (0, .ref (o 0)), (1, .int (nI ji))]) hx hb dX7_save_48 hl (k := 2) rfl (by exact nI_add _ 1) (by decide) rfl (fun ls hl => ?_)
          refine lv_goto (tgt := 28) hx hb dX7_save_51 (by decide) ?_
          exact ih_1 (k + 1) (cpS fB k (8 + 8 * ji + k)) H locs ls (by omega) (by omega) (sv_E (by omega) (by omega) hE9 hK9) (sv_F (by omega) hK9) (hP.sub [4, 5, 0, 1, 2, 3] rfl) (hD.sub [4, 5, 0, 1, 2, 3] (by decide) rfl) hS (lv_sub hl [1, 2, 0] rfl)
    exact loop_1 _ 0 fA H locs ls (Nat.lt_succ_self _) (by omega) (fun j h => absurd h (Nat.not_lt_zero _)) (fun k9 hk9 i9 hi9 => rfl) hP hD hS (lv_sub hl [1, 2, 0] rfl)
set_option maxHeartbeats 4000000 in
theorem x7_restore {l : Launch} {dC : Nat → ClassId} {dI : Nat → Nat → Nat} {dA : Nat → ClassId} {s0 : State} {b0 : Addr} (Z : Z0 l dC dI dA s0 b0) (A : Nat → Prop) (sz : Nat) (hA : ∀ q : Nat, sz ≤ q → A q) (o : Nat → Nat) (th : Int32) (p0 q0 r0 : Nat) (mu : Int64) (zz : Nat → Int32) (fA : Nat → Int64) (pp qq rr : Nat → Nat) (sv : Nat → Bool) (i : Int32) : Met l yX7_restore (ws_ yX7_restore cX7_restore 3 none) ({ frames := 2, cells := 0, slots := 0, locals := 120 } : Room) (gP [.ref (o 0), .int i] s0 A (fun H => H.size = sz ∧ va_P (dC, dI) vwCl [(o 0, .inr (2, mFs o th p0 q0 r0 mu zz)), (o 5, .inl (dA 1, 2640, .inr (.inl fA))), (o 1, .inl (dA 0, 2, .inl (fun j => nI (pp j)))), (o 2, .inl (dA 0, 2, .inl (fun j => nI (qq j)))), (o 3, .inl (dA 0, 2, .inl (fun j => nI (rr j)))), (o 4, .inl (dA 3, 2, .inl (fun j => bI (sv j))))] H ∧ va_D A [(o 0, .inr (2, mFs o th p0 q0 r0 mu zz)), (o 5, .inl (dA 1, 2640, .inr (.inl fA))), (o 1, .inl (dA 0, 2, .inl (fun j => nI (pp j)))), (o 2, .inl (dA 0, 2, .inl (fun j => nI (qq j)))), (o 3, .inl (dA 0, 2, .inl (fun j => nI (rr j)))), (o 4, .inl (dA 3, 2, .inl (fun j => bI (sv j))))])) (va_Qv (S := Int32 × Nat × Nat × Nat × (Nat → Int64)) (fun u => (inB i (nI 0) (nI 1) = true ∧ ∃ ji, ji < 2 ∧ i = nI ji ∧ sv ji = true ∧ u.1 = nI 0 ∧ u.2.1 = pp ji ∧ u.2.2.1 = qq ji ∧ u.2.2.2.1 = rr ji ∧ (∀ j, j < 8 → ∀ i, i < 33 → u.2.2.2.2 (33 * j + i) = fA (33 * (8 + 8 * ji + j) + i)) ∧ Kp fA u.2.2.2.2 (fun j => 8 ≤ j)) ∨ (inB i (nI 0) (nI 1) = false ∧ u = (nI 1, p0, q0, r0, fA)) ∨ (inB i (nI 0) (nI 1) = true ∧ ∃ ji, ji < 2 ∧ i = nI ji ∧ sv ji = false ∧ u = (nI 2, p0, q0, r0, fA))) (B1 (dC, dI) A (fun u => [(o 0, .inr (2, mFs o u.1 u.2.1 u.2.2.1 u.2.2.2.1 mu zz)), (o 5, .inl (dA 1, 2640, .inr (.inl u.2.2.2.2))), (o 1, .inl (dA 0, 2, .inl (fun j => nI (pp j)))), (o 2, .inl (dA 0, 2, .inl (fun j => nI (qq j)))), (o 3, .inl (dA 0, 2, .inl (fun j => nI (rr j)))), (o 4, .inl (dA 3, 2, .inl (fun j => bI (sv j))))]) (fun _ _ => True)) A) 0 0 A := by
  refine Met.ofW (cc := cX7_restore) (maxL := 3) (ret := none) (by decide) rfl ?_
  intro p e s m args below meth c s₁ B hml hv
  obtain ⟨hav, hG, hsz, hP, hD⟩ := hv
  have hx := B.exec
  have hb := B.bytes
  have hr := B.returns
  have hts := atoms_spec (ws := (ws_ yX7_restore cX7_restore 3 none)) B.pre
  have hts : ∀ w ∈ lw_all, w.before _ s = true := fun w h => hts w (List.mem_cons_of_mem _ h)
  have hown : s.vm.findClass RX7 = some m.cls := findClass_of_methodNamed B.named
  have hlocks := B.notSynchronized
  have hK := hG.K Z
  subst hsz
  have hS : va_S A s.heap s.heap [] := va_S.rf
  have hl := lv_entry ([.ref (o 0), .int i]) (n := 3) (Nat.le_of_ble_eq_true rfl)
  rw [show entryFrame m args 3 = entryFrame m ([.ref (o 0), .int i] : List Value).toArray 3 from by rw [hav], lg_entry_eq]
  generalize (lg_sl ([.ref (o 0), .int i]) ++ List.replicate (3 - (lg_sl ([.ref (o 0), .int i])).length) Slot.unset).toArray = ls at hl ⊢
  have hl : lv_has ls 3 [(0, .ref (o 0)), (1, .int i)] := hl
  generalize hQe : MQ below _ _ s _ _ _ = Q
  change W p l e ({ frames := 2, cells := 0, slots := 0, locals := 120 } : Room) s m args below meth c s.heap [] 0 0 Q (F0 m 0 ls [])
  refine lv_aload_n hx hb dX7_restore_0 rfl (lv_at hl 0 rfl) ?_
  refine lv_iload_n hx hb dX7_restore_1 rfl (lv_at hl 1 rfl) ?_
  refine lv_iconst (v := nI 0) hx hb dX7_restore_2 (by decide) ?_
  refine lv_iconst (v := nI 1) hx hb dX7_restore_3 (by decide) ?_
  refine s_i (va_runS (As := [.int i, .int (nI 0), .int (nI 1)]) (rest := [.ref (o 0)]) ⟨hx, hb, hml, hown, hts⟩ (x7_in Z i (nI 0) (nI 1)) (va_cwS 3 hts (lw_S q2097 q2098 q107 q2099) rfl rfl rfl (by decide +kernel) ⟨Nat.le_of_ble_eq_true rfl, Nat.le_of_ble_eq_true rfl⟩) (gP_S hG hS (fun q _ h => h.elim) trivial) rfl rfl hl.1 rfl (lv_room (Nat.le_of_ble_eq_true rfl)) dX7_restore_4 ⟨by first | decide | omega, by first | decide | omega⟩) ?_
  refine lv_if_ne (tgt := 14) hx hb dX7_restore_7 (by decide) (fun c_7 => ?_) (fun c_7 => ?_)
  · have h_i := bI_1 c_7
    obtain ⟨ji, hji, rfl⟩ := inB_nat (by decide) h_i
    refine lv_aload_n hx hb dX7_restore_14 rfl (lv_at hl 0 rfl) ?_
    refine va_get (D := (dC, dI)) (ci := 2) (v := .ref (o 4)) (C := RX7) (T := TX7) (N := 27) hx hb hts in_X7 hown hK hP 0 rfl rfl 7 (by decide) (hts _ q2013) (fun _ h9 => h9) rfl dX7_restore_15 ?_
    refine lv_iload_n hx hb dX7_restore_18 rfl (lv_at hl 1 rfl) ?_
    refine a_zald hx hb hK hP 5 3 rfl rfl (by omega) (by omega) dX7_restore_19 ?_
    refine e_i (y := bI (sv ji)) (rfl) ?_
    refine lv_if_eq (tgt := 27) hx hb dX7_restore_20 (by decide) (fun c_20 => ?_) (fun c_20 => ?_)
    · have h_s := bI_0 c_20
      refine lv_iconst (v := nI 2) hx hb dX7_restore_27 (by decide) ?_
      refine va_put (D := (dC, dI)) (ci := 2) (v := .int (nI 2)) (ty := .int) (C := RX7) (T := TX7) (N := 27) hx hb hts in_X7 tyX7 tyX7_ok nmX7 hown hK hP hD hS 0 rfl rfl 0 (by decide) (hts _ q2006) (fun _ h9 => h9) rfl (by decide +kernel) rfl rfl (Nat.le_of_ble_eq_true rfl) dX7_restore_28 (fun H locs hP hD hS => ?_)
      have hP : va_P (dC, dI) vwCl [(o 0, .inr (2, mFs o (nI 2) p0 q0 r0 mu zz)), (o 5, .inl (dA 1, 2640, .inr (.inl fA))), (o 1, .inl (dA 0, 2, .inl (fun j => nI (pp j)))), (o 2, .inl (dA 0, 2, .inl (fun j => nI (qq j)))), (o 3, .inl (dA 0, 2, .inl (fun j => nI (rr j)))), (o 4, .inl (dA 3, 2, .inl (fun j => bI (sv j))))] H := hP
      have hD : va_D A [(o 0, .inr (2, mFs o (nI 2) p0 q0 r0 mu zz)), (o 5, .inl (dA 1, 2640, .inr (.inl fA))), (o 1, .inl (dA 0, 2, .inl (fun j => nI (pp j)))), (o 2, .inl (dA 0, 2, .inl (fun j => nI (qq j)))), (o 3, .inl (dA 0, 2, .inl (fun j => nI (rr j)))), (o 4, .inl (dA 3, 2, .inl (fun j => bI (sv j))))] := hD
      refine lv_aload_n hx hb dX7_restore_31 rfl (lv_at hl 0 rfl) ?_
      refine va_get (D := (dC, dI)) (ci := 2) (v := .int (nI 2)) (C := RX7) (T := TX7) (N := 27) hx hb hts in_X7 hown hK hP 0 rfl rfl 0 (by decide) (hts _ q2006) (fun _ h9 => h9) rfl dX7_restore_32 ?_
      refine lv_if_le (tgt := 39) hx hb dX7_restore_35 (by decide) (fun c_35 => ?_) (fun c_35 => ?_)
      · exact absurd c_35 (by decide)
      subst hQe
      exact W.vret hx hb hr (fun tz ht hW => ⟨⟨(nI 2, p0, q0, r0, fA), rfl, Or.inr (Or.inr ⟨h_i, ji, by omega, rfl, h_s, rfl⟩), B1_at ht (hP.sub [0, 1, 2, 3, 4, 5] rfl) (hD.sub [0, 1, 2, 3, 4, 5] (by decide) rfl) trivial⟩, hS.F ht⟩) hS.2.2 dX7_restore_38
    · have h_s := bI_1 c_20
      refine lv_iconst (v := nI 0) hx hb dX7_restore_23 (by decide) ?_
      refine lv_goto (tgt := 28) hx hb dX7_restore_24 (by decide) ?_
      refine va_put (D := (dC, dI)) (ci := 2) (v := .int (nI 0)) (ty := .int) (C := RX7) (T := TX7) (N := 27) hx hb hts in_X7 tyX7 tyX7_ok nmX7 hown hK hP hD hS 0 rfl rfl 0 (by decide) (hts _ q2006) (fun _ h9 => h9) rfl (by decide +kernel) rfl rfl (Nat.le_of_ble_eq_true rfl) dX7_restore_28 (fun H locs hP hD hS => ?_)
      have hP : va_P (dC, dI) vwCl [(o 0, .inr (2, mFs o (nI 0) p0 q0 r0 mu zz)), (o 5, .inl (dA 1, 2640, .inr (.inl fA))), (o 1, .inl (dA 0, 2, .inl (fun j => nI (pp j)))), (o 2, .inl (dA 0, 2, .inl (fun j => nI (qq j)))), (o 3, .inl (dA 0, 2, .inl (fun j => nI (rr j)))), (o 4, .inl (dA 3, 2, .inl (fun j => bI (sv j))))] H := hP
      have hD : va_D A [(o 0, .inr (2, mFs o (nI 0) p0 q0 r0 mu zz)), (o 5, .inl (dA 1, 2640, .inr (.inl fA))), (o 1, .inl (dA 0, 2, .inl (fun j => nI (pp j)))), (o 2, .inl (dA 0, 2, .inl (fun j => nI (qq j)))), (o 3, .inl (dA 0, 2, .inl (fun j => nI (rr j)))), (o 4, .inl (dA 3, 2, .inl (fun j => bI (sv j))))] := hD
      refine lv_aload_n hx hb dX7_restore_31 rfl (lv_at hl 0 rfl) ?_
      refine va_get (D := (dC, dI)) (ci := 2) (v := .int (nI 0)) (C := RX7) (T := TX7) (N := 27) hx hb hts in_X7 hown hK hP 0 rfl rfl 0 (by decide) (hts _ q2006) (fun _ h9 => h9) rfl dX7_restore_32 ?_
      refine lv_if_le (tgt := 39) hx hb dX7_restore_35 (by decide) (fun c_35 => ?_) (fun c_35 => ?_)
      rotate_left
      · exact absurd (by decide) c_35
      refine lv_iconst (v := nI 0) hx hb dX7_restore_39 (by decide) ?_
      refine lv_istore_n (lv' := [(2, .int (nI 0)), (0, .ref (o 0)), (1, .int (nI ji))]) hx hb dX7_restore_40 rfl hl (by decide) rfl (fun ls hl => ?_)
      have loop_1 : ∀ (n9_1 : Nat) (k : Nat) (fB : Nat → Int64) (H : Heap) (locs : List Loc) (ls : Array Slot), 8 - k < n9_1 → (k ≤ 8) → (∀ j, j < k → ∀ i, i < 33 → fB (33 * j + i) = fA (33 * (8 + 8 * ji + j) + i)) → (Kp fA fB (fun j => 8 ≤ j)) → va_P (dC, dI) vwCl [(o 0, .inr (2, mFs o (nI 0) p0 q0 r0 mu zz)), (o 5, .inl (dA 1, 2640, .inr (.inl fB))), (o 1, .inl (dA 0, 2, .inl (fun j => nI (pp j)))), (o 2, .inl (dA 0, 2, .inl (fun j => nI (qq j)))), (o 3, .inl (dA 0, 2, .inl (fun j => nI (rr j)))), (o 4, .inl (dA 3, 2, .inl (fun j => bI (sv j))))] H → va_D A [(o 0, .inr (2, mFs o (nI 0) p0 q0 r0 mu zz)), (o 5, .inl (dA 1, 2640, .inr (.inl fB))), (o 1, .inl (dA 0, 2, .inl (fun j => nI (pp j)))), (o 2, .inl (dA 0, 2, .inl (fun j => nI (qq j)))), (o 3, .inl (dA 0, 2, .inl (fun j => nI (rr j)))), (o 4, .inl (dA 3, 2, .inl (fun j => bI (sv j))))] → va_S A s.heap H locs → lv_has ls 3 [(0, .ref (o 0)), (1, .int (nI ji)), (2, .int (nI k))] → W p l e ({ frames := 2, cells := 0, slots := 0, locals := 120 } : Room) s m args below meth c H locs 0 0 Q (F0 m 41 ls []) := by
        intro n9_1
        induction n9_1 with
        | zero => intro k fB H locs ls hm_1; exact absurd hm_1 (Nat.not_lt_zero _)
        | succ n9_1 ih_1 =>
          intro k fB H locs ls hm_1 hk9 hE9 hK9 hP hD hS hl
          refine lv_iload_n hx hb dX7_restore_41 rfl (lv_at hl 2 rfl) ?_
          refine lv_bipush (v := nI 8) hx hb dX7_restore_42 (by decide) ?_
          refine lv_icmp_ge (tgt := 67) hx hb dX7_restore_44 (by decide) (fun c_44 => ?_) (fun c_44 => ?_)
          · have c_44 : 8 ≤ k := (nI_leI (a := 8) (b := k) (by omega) (by omega)).mp c_44
            obtain rfl : k = 8 := by omega
            refine lv_aload_n hx hb dX7_restore_67 rfl (lv_at hl 0 rfl) ?_
            refine lv_aload_n hx hb dX7_restore_68 rfl (lv_at hl 0 rfl) ?_
            refine va_get (D := (dC, dI)) (ci := 2) (v := .ref (o 1)) (C := RX7) (T := TX7) (N := 27) hx hb hts in_X7 hown hK hP 0 rfl rfl 4 (by decide) (hts _ q2010) (fun _ h9 => h9) rfl dX7_restore_69 ?_
            refine lv_iload_n hx hb dX7_restore_72 rfl (lv_at hl 1 rfl) ?_
            refine a_iald hx hb hK hP 2 0 rfl rfl (by omega) (by omega) dX7_restore_73 ?_
            refine e_i (y := nI (pp ji)) (rfl) ?_
            refine va_put (D := (dC, dI)) (ci := 2) (v := .int (nI (pp ji))) (ty := .int) (C := RX7) (T := TX7) (N := 27) hx hb hts in_X7 tyX7 tyX7_ok nmX7 hown hK hP hD hS 0 rfl rfl 1 (by decide) (hts _ q2007) (fun _ h9 => h9) rfl (by decide +kernel) rfl rfl (Nat.le_of_ble_eq_true rfl) dX7_restore_74 (fun H locs hP hD hS => ?_)
            have hP : va_P (dC, dI) vwCl [(o 0, .inr (2, mFs o (nI 0) (pp ji) q0 r0 mu zz)), (o 5, .inl (dA 1, 2640, .inr (.inl fB))), (o 1, .inl (dA 0, 2, .inl (fun j => nI (pp j)))), (o 2, .inl (dA 0, 2, .inl (fun j => nI (qq j)))), (o 3, .inl (dA 0, 2, .inl (fun j => nI (rr j)))), (o 4, .inl (dA 3, 2, .inl (fun j => bI (sv j))))] H := hP
            have hD : va_D A [(o 0, .inr (2, mFs o (nI 0) (pp ji) q0 r0 mu zz)), (o 5, .inl (dA 1, 2640, .inr (.inl fB))), (o 1, .inl (dA 0, 2, .inl (fun j => nI (pp j)))), (o 2, .inl (dA 0, 2, .inl (fun j => nI (qq j)))), (o 3, .inl (dA 0, 2, .inl (fun j => nI (rr j)))), (o 4, .inl (dA 3, 2, .inl (fun j => bI (sv j))))] := hD
            refine lv_aload_n hx hb dX7_restore_77 rfl (lv_at hl 0 rfl) ?_
            refine lv_aload_n hx hb dX7_restore_78 rfl (lv_at hl 0 rfl) ?_
            refine va_get (D := (dC, dI)) (ci := 2) (v := .ref (o 2)) (C := RX7) (T := TX7) (N := 27) hx hb hts in_X7 hown hK hP 0 rfl rfl 5 (by decide) (hts _ q2011) (fun _ h9 => h9) rfl dX7_restore_79 ?_
            refine lv_iload_n hx hb dX7_restore_82 rfl (lv_at hl 1 rfl) ?_
            refine a_iald hx hb hK hP 3 0 rfl rfl (by omega) (by omega) dX7_restore_83 ?_
            refine e_i (y := nI (qq ji)) (rfl) ?_
            refine va_put (D := (dC, dI)) (ci := 2) (v := .int (nI (qq ji))) (ty := .int) (C := RX7) (T := TX7) (N := 27) hx hb hts in_X7 tyX7 tyX7_ok nmX7 hown hK hP hD hS 0 rfl rfl 2 (by decide) (hts _ q2008) (fun _ h9 => h9) rfl (by decide +kernel) rfl rfl (Nat.le_of_ble_eq_true rfl) dX7_restore_84 (fun H locs hP hD hS => ?_)
            have hP : va_P (dC, dI) vwCl [(o 0, .inr (2, mFs o (nI 0) (pp ji) (qq ji) r0 mu zz)), (o 5, .inl (dA 1, 2640, .inr (.inl fB))), (o 1, .inl (dA 0, 2, .inl (fun j => nI (pp j)))), (o 2, .inl (dA 0, 2, .inl (fun j => nI (qq j)))), (o 3, .inl (dA 0, 2, .inl (fun j => nI (rr j)))), (o 4, .inl (dA 3, 2, .inl (fun j => bI (sv j))))] H := hP
            have hD : va_D A [(o 0, .inr (2, mFs o (nI 0) (pp ji) (qq ji) r0 mu zz)), (o 5, .inl (dA 1, 2640, .inr (.inl fB))), (o 1, .inl (dA 0, 2, .inl (fun j => nI (pp j)))), (o 2, .inl (dA 0, 2, .inl (fun j => nI (qq j)))), (o 3, .inl (dA 0, 2, .inl (fun j => nI (rr j)))), (o 4, .inl (dA 3, 2, .inl (fun j => bI (sv j))))] := hD
            refine lv_aload_n hx hb dX7_restore_87 rfl (lv_at hl 0 rfl) ?_
            refine lv_aload_n hx hb dX7_restore_88 rfl (lv_at hl 0 rfl) ?_
            refine va_get (D := (dC, dI)) (ci := 2) (v := .ref (o 3)) (C := RX7) (T := TX7) (N := 27) hx hb hts in_X7 hown hK hP 0 rfl rfl 6 (by decide) (hts _ q2012) (fun _ h9 => h9) rfl dX7_restore_89 ?_
            refine lv_iload_n hx hb dX7_restore_92 rfl (lv_at hl 1 rfl) ?_
            refine a_iald hx hb hK hP 4 0 rfl rfl (by omega) (by omega) dX7_restore_93 ?_
            refine e_i (y := nI (rr ji)) (rfl) ?_
            refine va_put (D := (dC, dI)) (ci := 2) (v := .int (nI (rr ji))) (ty := .int) (C := RX7) (T := TX7) (N := 27) hx hb hts in_X7 tyX7 tyX7_ok nmX7 hown hK hP hD hS 0 rfl rfl 3 (by decide) (hts _ q2009) (fun _ h9 => h9) rfl (by decide +kernel) rfl rfl (Nat.le_of_ble_eq_true rfl) dX7_restore_94 (fun H locs hP hD hS => ?_)
            have hP : va_P (dC, dI) vwCl [(o 0, .inr (2, mFs o (nI 0) (pp ji) (qq ji) (rr ji) mu zz)), (o 5, .inl (dA 1, 2640, .inr (.inl fB))), (o 1, .inl (dA 0, 2, .inl (fun j => nI (pp j)))), (o 2, .inl (dA 0, 2, .inl (fun j => nI (qq j)))), (o 3, .inl (dA 0, 2, .inl (fun j => nI (rr j)))), (o 4, .inl (dA 3, 2, .inl (fun j => bI (sv j))))] H := hP
            have hD : va_D A [(o 0, .inr (2, mFs o (nI 0) (pp ji) (qq ji) (rr ji) mu zz)), (o 5, .inl (dA 1, 2640, .inr (.inl fB))), (o 1, .inl (dA 0, 2, .inl (fun j => nI (pp j)))), (o 2, .inl (dA 0, 2, .inl (fun j => nI (qq j)))), (o 3, .inl (dA 0, 2, .inl (fun j => nI (rr j)))), (o 4, .inl (dA 3, 2, .inl (fun j => bI (sv j))))] := hD
            subst hQe
            exact W.vret hx hb hr (fun tz ht hW => ⟨⟨(nI 0, pp ji, qq ji, rr ji, fB), rfl, Or.inl ⟨h_i, ji, by omega, rfl, h_s, rfl, rfl, rfl, rfl, hE9, hK9⟩, B1_at ht (hP.sub [0, 1, 2, 3, 4, 5] rfl) (hD.sub [0, 1, 2, 3, 4, 5] (by decide) rfl) trivial⟩, hS.F ht⟩) hS.2.2 dX7_restore_97
          · have c_44 : ¬ 8 ≤ k := fun h => c_44 ((nI_leI (a := 8) (b := k) (by omega) (by omega)).mpr h)
            refine lv_aload_n hx hb dX7_restore_47 rfl (lv_at hl 0 rfl) ?_
            refine lv_bipush (v := nI 8) hx hb dX7_restore_48 (by decide) ?_
            refine lv_bipush (v := nI 8) hx hb dX7_restore_50 (by decide) ?_
            refine lv_iload_n hx hb dX7_restore_52 rfl (lv_at hl 1 rfl) ?_
            refine lv_imul hx hb dX7_restore_53 ?_
            refine e_i (y := nI (8 * ji)) (pk_mul _ _) ?_
            refine lv_iadd hx hb dX7_restore_54 ?_
            refine e_i (y := nI (8 + (8 * ji))) (nI_add _ _) ?_
            refine lv_iload_n hx hb dX7_restore_55 rfl (lv_at hl 2 rfl) ?_
            refine lv_iadd hx hb dX7_restore_56 ?_
            refine e_i (y := nI (8 + (8 * ji) + k)) (nI_add _ _) ?_
            refine lv_iload_n hx hb dX7_restore_57 rfl (lv_at hl 2 rfl) ?_
            have hF9 := va_free (wc := [(o 0, .inr (2, mFs o (nI 0) p0 q0 r0 mu zz)), (o 5, .inl (dA 1, 2640, .inr (.inl fB)))]) hD hS (fun q h => hA q h) [0, 1] rfl
            refine c_v (wr := [(o 1, .inl (dA 0, 2, .inl (fun j => nI (pp j)))), (o 2, .inl (dA 0, 2, .inl (fun j => nI (qq j)))), (o 3, .inl (dA 0, 2, .inl (fun j => nI (rr j)))), (o 4, .inl (dA 3, 2, .inl (fun j => bI (sv j))))]) (va_runV (As := [.int (nI (8 + (8 * ji) + k)), .int (nI k)]) (rest := []) ⟨hx, hb, hml, hown, hts⟩ (x7_copies Z (va_A [(o 0, .inr (2, mFs o (nI 0) p0 q0 r0 mu zz)), (o 5, .inl (dA 1, 2640, .inr (.inl fB)))] H.size) H.size (fun q h => Or.inr h) o (nI 0) p0 q0 r0 mu zz fB (fun _ => 0) (8 + (8 * ji) + k) k (by omega) (by omega)) (cwV 2 hts (lw_V q2185 q2187 qs49 q107 q2188) rfl rfl rfl (by decide +kernel) ⟨Nat.le_of_ble_eq_true rfl, Nat.le_of_ble_eq_true rfl⟩) (gP_V (va_recv hK hP (ci := 2) (q0 := 0) rfl rfl) hG hS (fun q _ h => hF9 q h) ⟨rfl, (hP.sub (ws' := [(o 0, .inr (2, mFs o (nI 0) p0 q0 r0 mu zz)), (o 5, .inl (dA 1, 2640, .inr (.inl fB)))]) [0, 1] rfl), (hD.sub (ws' := [(o 0, .inr (2, mFs o (nI 0) p0 q0 r0 mu zz)), (o 5, .inl (dA 1, 2640, .inr (.inl fB)))]) [0, 1] (by decide) rfl).self⟩) rfl rfl hl.1 rfl (lv_room (Nat.le_of_ble_eq_true rfl)) dX7_restore_58 ⟨by first | decide | omega, by first | decide | omega⟩) hP hD hS hA [0, 1] [2, 3, 4, 5] rfl rfl (by decide) (by decide) (fun u9 H locs hq hX hz hk hP hD hS => ?_)
            have hP : va_P (dC, dI) vwCl [(o 1, .inl (dA 0, 2, .inl (fun j => nI (pp j)))), (o 2, .inl (dA 0, 2, .inl (fun j => nI (qq j)))), (o 3, .inl (dA 0, 2, .inl (fun j => nI (rr j)))), (o 4, .inl (dA 3, 2, .inl (fun j => bI (sv j)))), (o 0, .inr (2, mFs o (nI 0) p0 q0 r0 mu zz)), (o 5, .inl (dA 1, 2640, .inr (.inl (cpS fB (8 + (8 * ji) + k) k))))] H := hP
            have hD : va_D A [(o 1, .inl (dA 0, 2, .inl (fun j => nI (pp j)))), (o 2, .inl (dA 0, 2, .inl (fun j => nI (qq j)))), (o 3, .inl (dA 0, 2, .inl (fun j => nI (rr j)))), (o 4, .inl (dA 3, 2, .inl (fun j => bI (sv j)))), (o 0, .inr (2, mFs o (nI 0) p0 q0 r0 mu zz)), (o 5, .inl (dA 1, 2640, .inr (.inl (cpS fB (8 + (8 * ji) + k) k))))] := hD
            refine lv_iinc (v := nI (k + 1)) (lv' := [(2, .int (nI (k + 1))), (0, .ref (o 0)), (1, .int (nI ji))]) hx hb dX7_restore_61 hl (k := 2) rfl (by exact nI_add _ 1) (by decide) rfl (fun ls hl => ?_)
            refine lv_goto (tgt := 41) hx hb dX7_restore_64 (by decide) ?_
            exact ih_1 (k + 1) (cpS fB (8 + 8 * ji + k) k) H locs ls (by omega) (by omega) (rs_E (by omega) (by omega) hE9 hK9) (rs_F (by omega) hK9) (hP.sub [4, 5, 0, 1, 2, 3] rfl) (hD.sub [4, 5, 0, 1, 2, 3] (by decide) rfl) hS (lv_sub hl [1, 2, 0] rfl)
      exact loop_1 _ 0 fA H locs ls (Nat.lt_succ_self _) (by omega) (fun j h => absurd h (Nat.not_lt_zero _)) (fun k9 hk9 i9 hi9 => rfl) hP hD hS (lv_sub hl [1, 2, 0] rfl)
  · have h_i := bI_0 c_7
    refine lv_iconst (v := nI 1) hx hb dX7_restore_10 (by decide) ?_
    refine lv_goto (tgt := 28) hx hb dX7_restore_11 (by decide) ?_
    refine va_put (D := (dC, dI)) (ci := 2) (v := .int (nI 1)) (ty := .int) (C := RX7) (T := TX7) (N := 27) hx hb hts in_X7 tyX7 tyX7_ok nmX7 hown hK hP hD hS 0 rfl rfl 0 (by decide) (hts _ q2006) (fun _ h9 => h9) rfl (by decide +kernel) rfl rfl (Nat.le_of_ble_eq_true rfl) dX7_restore_28 (fun H locs hP hD hS => ?_)
    have hP : va_P (dC, dI) vwCl [(o 0, .inr (2, mFs o (nI 1) p0 q0 r0 mu zz)), (o 5, .inl (dA 1, 2640, .inr (.inl fA))), (o 1, .inl (dA 0, 2, .inl (fun j => nI (pp j)))), (o 2, .inl (dA 0, 2, .inl (fun j => nI (qq j)))), (o 3, .inl (dA 0, 2, .inl (fun j => nI (rr j)))), (o 4, .inl (dA 3, 2, .inl (fun j => bI (sv j))))] H := hP
    have hD : va_D A [(o 0, .inr (2, mFs o (nI 1) p0 q0 r0 mu zz)), (o 5, .inl (dA 1, 2640, .inr (.inl fA))), (o 1, .inl (dA 0, 2, .inl (fun j => nI (pp j)))), (o 2, .inl (dA 0, 2, .inl (fun j => nI (qq j)))), (o 3, .inl (dA 0, 2, .inl (fun j => nI (rr j)))), (o 4, .inl (dA 3, 2, .inl (fun j => bI (sv j))))] := hD
    refine lv_aload_n hx hb dX7_restore_31 rfl (lv_at hl 0 rfl) ?_
    refine va_get (D := (dC, dI)) (ci := 2) (v := .int (nI 1)) (C := RX7) (T := TX7) (N := 27) hx hb hts in_X7 hown hK hP 0 rfl rfl 0 (by decide) (hts _ q2006) (fun _ h9 => h9) rfl dX7_restore_32 ?_
    refine lv_if_le (tgt := 39) hx hb dX7_restore_35 (by decide) (fun c_35 => ?_) (fun c_35 => ?_)
    · exact absurd c_35 (by decide)
    subst hQe
    exact W.vret hx hb hr (fun tz ht hW => ⟨⟨(nI 1, p0, q0, r0, fA), rfl, Or.inr (Or.inl ⟨h_i, rfl⟩), B1_at ht (hP.sub [0, 1, 2, 3, 4, 5] rfl) (hD.sub [0, 1, 2, 3, 4, 5] (by decide) rfl) trivial⟩, hS.F ht⟩) hS.2.2 dX7_restore_38
