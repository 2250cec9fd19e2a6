theorem frc_hold {f : Nat → Int64} {u v : Int64} (h : Hold f 25 (numM v)) : Hold (vp_updL f 825 u) 25 (frcM u v) := fun i hi => by
  by_cases h0 : i = 0
  · subst h0; exact pk_uLs
  · rw [pk_uLn (by omega), h i hi]
    show (if i = 0 then (1 : Int64) else if i = 1 then v else 0) = if i = 0 then u else if i = 1 then v else 0
    rw [if_neg h0, if_neg h0]
theorem wm_cases (n : Nat) (Ms : Nat → MV) (b : Bool) (f : Int32) : wmX n Ms b f = nI 0 ∨ wmX n Ms b f = nI 1 ∨ wmX n Ms b f = nI 2 := by
  unfold wmX
  repeat' split
  · exact Or.inr (Or.inl rfl)
  · exact Or.inr (Or.inl rfl)
  · exact Or.inl rfl
  · exact Or.inr (Or.inr rfl)
theorem wm_0 {n : Nat} {Ms : Nat → MV} {b : Bool} {f : Int32} (h : wmX n Ms b f ≤ 0) : wmX n Ms b f = nI 0 := by
  rcases wm_cases n Ms b f with e | e | e
  · exact e
  · rw [e] at h; exact absurd h (by decide)
  · rw [e] at h; exact absurd h (by decide)
theorem wm_n {n : Nat} {Ms : Nat → MV} {b : Bool} {f : Int32} (h : ¬ wmX n Ms b f ≤ 0) : wmX n Ms b f ≠ nI 0 := fun e => h (by rw [e]; decide)
theorem wm_ok {n : Nat} {Ms : Nat → MV} {b : Bool} {f : Int32} (h : wmX n Ms b f = nI 0) : b = true ∧ inB f (nI 0) (nI (8 - n)) = true ∧ vecsN Ms f.toNatClampNeg n = true := by
  unfold wmX at h
  split at h
  · exact absurd h (by decide)
  · split at h
    · exact absurd h (by decide)
    · split at h
      · rename_i h1 h2 h3
        exact ⟨by simpa using h1, by simpa using h2, h3⟩
      · exact absurd h (by decide)
set_option maxHeartbeats 4000000 in
theorem x7_wrongMap {l : Launch} {dC : Nat → ClassId} {dI : Nat → Nat → Nat} {dA : Nat → ClassId} {s0 : State} {b0 : Addr} (Z : Z0 l dC dI dA s0 b0) (o : Nat → Nat) (th : Int32) (p0 q0 r0 : Nat) (mu : Int64) (zz : Nat → Int32) (fA : Nat → Int64) (Ms : Nat → MV) (t9 : Bool) (f : Int32) (hn : p0 + q0 + r0 ≤ 5) (hR : ∀ k, k < 8 → Hold fA k (Ms k)) : Met l yX7_wrongMap (ws_ yX7_wrongMap cX7_wrongMap 5 (some .int)) ({ frames := 4, cells := 0, slots := 0, locals := 240 } : Room) (gP [.ref (o 0), .int (bI t9), .int f] s0 (fun _ => False) (fun H => va_P (dC, dI) vwCl [(o 0, .inr (2, mFs o th p0 q0 r0 mu zz)), (o 5, .inl (dA 1, 2640, .inr (.inl fA)))] H)) (vp_Si (fun r => r = wmX (p0 + q0 + r0) Ms t9 f)) 0 0 (fun _ => False) := by
  refine Met.ofW (cc := cX7_wrongMap) (maxL := 5) (ret := (some .int)) (by decide) rfl ?_
  intro p e s m args below meth c s₁ B hml hv
  obtain ⟨hav, hG, hP⟩ := hv
  have hx := B.exec
  have hb := B.bytes
  have hr := B.returns
  have hts := atoms_spec (ws := (ws_ yX7_wrongMap cX7_wrongMap 5 (some .int))) B.pre
  have hts : ∀ w ∈ lw_all, w.before _ s = true := fun w h => hts w (List.mem_cons_of_mem _ h)
  have hown : s.vm.findClass RX7 = some m.cls := findClass_of_methodNamed B.named
  have hlocks := B.notSynchronized
  have hK := hG.K Z
  have hS : va_S (fun _ => False) s.heap s.heap [] := va_S.rf
  have hl := lv_entry ([.ref (o 0), .int (bI t9), .int f]) (n := 5) (Nat.le_of_ble_eq_true rfl)
  rw [show entryFrame m args 5 = entryFrame m ([.ref (o 0), .int (bI t9), .int f] : List Value).toArray 5 from by rw [hav], lg_entry_eq]
  generalize (lg_sl ([.ref (o 0), .int (bI t9), .int f]) ++ List.replicate (5 - (lg_sl ([.ref (o 0), .int (bI t9), .int f])).length) Slot.unset).toArray = ls at hl ⊢
  have hl : lv_has ls 5 [(0, .ref (o 0)), (1, .int (bI t9)), (2, .int f)] := hl
  generalize hQe : MQ below _ _ s _ _ _ = Q
  change W p l e ({ frames := 4, cells := 0, slots := 0, locals := 240 } : Room) s m args below meth c s.heap [] 0 0 Q (F0 m 0 ls [])
  refine lv_iload_n hx hb dX7_wrongMap_0 rfl (lv_at hl 1 rfl) ?_
  refine lv_if_eq (tgt := 19) hx hb dX7_wrongMap_1 (by decide) (fun c_1 => ?_) (fun c_1 => ?_)
  · refine lv_iconst (v := nI 1) hx hb dX7_wrongMap_19 (by decide) ?_
    subst hQe
    exact W.iret (v := nI 1) hx hb hr (fun tz ht hW => ⟨_, rfl, (by unfold wmX; rw [if_pos (bI_0 c_1)]), ht⟩) hS.2.2 dX7_wrongMap_20
  · have ht9 := bI_1 c_1
    refine lv_iload_n hx hb dX7_wrongMap_4 rfl (lv_at hl 2 rfl) ?_
    refine lv_iconst (v := nI 0) hx hb dX7_wrongMap_5 (by decide) ?_
    refine lv_bipush (v := nI 8) hx hb dX7_wrongMap_6 (by decide) ?_
    refine lv_aload_n hx hb dX7_wrongMap_8 rfl (lv_at hl 0 rfl) ?_
    refine s_i (va_runV (As := []) (rest := [.int (nI 8), .int (nI 0), .int f]) ⟨hx, hb, hml, hown, hts⟩ (x7_n Z o th p0 q0 r0 mu zz) (cwV 0 hts (lw_V q2151 q2153 qs44 q107 q2154) rfl rfl rfl (by decide +kernel) ⟨Nat.le_of_ble_eq_true rfl, Nat.le_of_ble_eq_true rfl⟩) (gP_V (va_recv hK hP (ci := 2) (q0 := 0) rfl rfl) hG hS (fun q _ h => h.elim) (hP.sub (ws' := [(o 0, .inr (2, mFs o th p0 q0 r0 mu zz))]) [0] rfl)) rfl rfl hl.1 rfl (lv_room (Nat.le_of_ble_eq_true rfl)) dX7_wrongMap_9 ⟨by first | decide | omega, by first | decide | omega⟩) ?_
    refine lv_isub hx hb dX7_wrongMap_12 ?_
    refine e_i (y := nI (8 - (p0 + q0 + r0))) (pk_sub (by omega)) ?_
    refine s_i (va_runS (As := [.int f, .int (nI 0), .int (nI (8 - (p0 + q0 + r0)))]) (rest := []) ⟨hx, hb, hml, hown, hts⟩ (x7_in Z f (nI 0) (nI (8 - (p0 + q0 + r0)))) (va_cwS 3 hts (lw_S q2097 q2098 q107 q2099) rfl rfl rfl (by decide +kernel) ⟨Nat.le_of_ble_eq_true rfl, Nat.le_of_ble_eq_true rfl⟩) (gP_S hG hS (fun q _ h => h.elim) trivial) rfl rfl hl.1 rfl (lv_room (Nat.le_of_ble_eq_true rfl)) dX7_wrongMap_13 ⟨by first | decide | omega, by first | decide | omega⟩) ?_
    refine lv_if_ne (tgt := 21) hx hb dX7_wrongMap_16 (by decide) (fun c_16 => ?_) (fun c_16 => ?_)
    · have h_f := bI_1 c_16
      obtain ⟨jf, hj_f, rfl⟩ := inB_nat (by omega) h_f
      refine lv_iconst (v := nI 1) hx hb dX7_wrongMap_21 (by decide) ?_
      refine lv_istore_n (lv' := [(3, .int (nI 1)), (0, .ref (o 0)), (1, .int (bI t9)), (2, .int (nI jf))]) hx hb dX7_wrongMap_22 rfl hl (by decide) rfl (fun ls hl => ?_)
      refine lv_iconst (v := nI 0) hx hb dX7_wrongMap_23 (by decide) ?_
      refine lv_istore (lv' := [(4, .int (nI 0)), (3, .int (nI 1)), (0, .ref (o 0)), (1, .int (bI t9)), (2, .int (nI jf))]) hx hb dX7_wrongMap_24 hl (by decide) rfl (fun ls hl => ?_)
      have loop_1 : ∀ (n9_1 : Nat) (k : Nat) (ls : Array Slot), p0 + q0 + r0 - k < n9_1 → (k ≤ p0 + q0 + r0) → lv_has ls 5 [(0, .ref (o 0)), (1, .int (bI t9)), (2, .int (nI jf)), (3, .int (bI (vecsN Ms jf k))), (4, .int (nI k))] → W p l e ({ frames := 4, cells := 0, slots := 0, locals := 240 } : Room) s m args below meth c s.heap [] 0 0 Q (F0 m 26 ls []) := by
        intro n9_1
        induction n9_1 with
        | zero => intro k ls hm_1; exact absurd hm_1 (Nat.not_lt_zero _)
        | succ n9_1 ih_1 =>
          intro k ls hm_1 hk9 hl
          refine lv_iload hx hb dX7_wrongMap_26 (lv_at hl 4 rfl) ?_
          refine lv_aload_n hx hb dX7_wrongMap_28 rfl (lv_at hl 0 rfl) ?_
          refine s_i (va_runV (As := []) (rest := [.int (nI k)]) ⟨hx, hb, hml, hown, hts⟩ (x7_n Z o th p0 q0 r0 mu zz) (cwV 0 hts (lw_V q2151 q2153 qs44 q107 q2154) rfl rfl rfl (by decide +kernel) ⟨Nat.le_of_ble_eq_true rfl, Nat.le_of_ble_eq_true rfl⟩) (gP_V (va_recv hK hP (ci := 2) (q0 := 0) rfl rfl) hG hS (fun q _ h => h.elim) (hP.sub (ws' := [(o 0, .inr (2, mFs o th p0 q0 r0 mu zz))]) [0] rfl)) rfl rfl hl.1 rfl (lv_room (Nat.le_of_ble_eq_true rfl)) dX7_wrongMap_29 ⟨by first | decide | omega, by first | decide | omega⟩) ?_
          refine lv_icmp_ge (tgt := 62) hx hb dX7_wrongMap_32 (by decide) (fun c_32 => ?_) (fun c_32 => ?_)
          · have c_32 : (p0 + q0 + r0) ≤ k := (nI_leI (a := (p0 + q0 + r0)) (b := k) (by omega) (by omega)).mp c_32
            obtain rfl : k = p0 + q0 + r0 := by omega
            refine lv_iload_n hx hb dX7_wrongMap_62 rfl (lv_at hl 3 rfl) ?_
            refine lv_if_eq (tgt := 70) hx hb dX7_wrongMap_63 (by decide) (fun c_63 => ?_) (fun c_63 => ?_)
            · refine lv_iconst (v := nI 2) hx hb dX7_wrongMap_70 (by decide) ?_
              subst hQe
              exact W.iret (v := nI 2) hx hb hr (fun tz ht hW => ⟨_, rfl, (by unfold wmX; rw [if_neg (by rw [ht9]; decide), if_neg (by rw [h_f]; decide), nI_clamp (show jf < 2 ^ 31 by omega), if_neg (by rw [bI_0 c_63]; decide)]), ht⟩) hS.2.2 dX7_wrongMap_71
            · refine lv_iconst (v := nI 0) hx hb dX7_wrongMap_66 (by decide) ?_
              refine lv_goto (tgt := 71) hx hb dX7_wrongMap_67 (by decide) ?_
              subst hQe
              exact W.iret (v := nI 0) hx hb hr (fun tz ht hW => ⟨_, rfl, (by unfold wmX; rw [if_neg (by rw [ht9]; decide), if_neg (by rw [h_f]; decide), nI_clamp (show jf < 2 ^ 31 by omega), if_pos (bI_1 c_63)]), ht⟩) hS.2.2 dX7_wrongMap_71
          · have c_32 : ¬ (p0 + q0 + r0) ≤ k := fun h => c_32 ((nI_leI (a := (p0 + q0 + r0)) (b := k) (by omega) (by omega)).mpr h)
            refine lv_iload_n hx hb dX7_wrongMap_35 rfl (lv_at hl 3 rfl) ?_
            refine lv_if_eq (tgt := 54) hx hb dX7_wrongMap_36 (by decide) (fun c_36 => ?_) (fun c_36 => ?_)
            · refine lv_iconst (v := nI 0) hx hb dX7_wrongMap_54 (by decide) ?_
              refine e_i (y := bI (vecsN Ms jf (k + 1))) ((by show _ = bI (vecsN Ms jf k && vecB (Ms (jf + k))); rw [bI_0 c_36, Bool.false_and]; rfl)) ?_
              refine lv_istore_n (lv' := [(3, .int (bI (vecsN Ms jf (k + 1)))), (0, .ref (o 0)), (1, .int (bI t9)), (2, .int (nI jf)), (4, .int (nI k))]) hx hb dX7_wrongMap_55 rfl hl (by decide) rfl (fun ls hl => ?_)
              refine lv_iinc (v := nI (k + 1)) (lv' := [(4, .int (nI (k + 1))), (3, .int (bI (vecsN Ms jf (k + 1)))), (0, .ref (o 0)), (1, .int (bI t9)), (2, .int (nI jf))]) hx hb dX7_wrongMap_56 hl (k := 4) rfl (by exact nI_add _ 1) (by decide) rfl (fun ls hl => ?_)
              refine lv_goto (tgt := 26) hx hb dX7_wrongMap_59 (by decide) ?_
              exact ih_1 (k + 1) ls (by omega) (by omega) (lv_sub hl [2, 3, 4, 1, 0] rfl)
            · refine lv_aload_n hx hb dX7_wrongMap_39 rfl (lv_at hl 0 rfl) ?_
              refine lv_iload_n hx hb dX7_wrongMap_40 rfl (lv_at hl 2 rfl) ?_
              refine lv_iload hx hb dX7_wrongMap_41 (lv_at hl 4 rfl) ?_
              refine lv_iadd hx hb dX7_wrongMap_43 ?_
              refine e_i (y := nI (jf + k)) (nI_add _ _) ?_
              refine s_i (va_runV (As := [.int (nI (jf + k))]) (rest := []) ⟨hx, hb, hml, hown, hts⟩ (x7_isVector Z o th p0 q0 r0 mu zz fA (jf + k) (Ms (jf + k)) (by omega) (hR (jf + k) (by omega))) (cwV 1 hts (lw_V q2285 q2287 qs61 q107 q2288) rfl rfl rfl (by decide +kernel) ⟨Nat.le_of_ble_eq_true rfl, Nat.le_of_ble_eq_true rfl⟩) (gP_V (va_recv hK hP (ci := 2) (q0 := 0) rfl rfl) hG hS (fun q _ h => h.elim) (hP.sub (ws' := [(o 0, .inr (2, mFs o th p0 q0 r0 mu zz)), (o 5, .inl (dA 1, 2640, .inr (.inl fA)))]) [0, 1] rfl)) rfl rfl hl.1 rfl (lv_room (Nat.le_of_ble_eq_true rfl)) dX7_wrongMap_44 ⟨by first | decide | omega, by first | decide | omega⟩) ?_
              refine lv_if_eq (tgt := 54) hx hb dX7_wrongMap_47 (by decide) (fun c_47 => ?_) (fun c_47 => ?_)
              · refine lv_iconst (v := nI 0) hx hb dX7_wrongMap_54 (by decide) ?_
                refine e_i (y := bI (vecsN Ms jf (k + 1))) ((by show _ = bI (vecsN Ms jf k && vecB (Ms (jf + k))); rw [bI_1 c_36, Bool.true_and, bI_0 c_47]; rfl)) ?_
                refine lv_istore_n (lv' := [(3, .int (bI (vecsN Ms jf (k + 1)))), (0, .ref (o 0)), (1, .int (bI t9)), (2, .int (nI jf)), (4, .int (nI k))]) hx hb dX7_wrongMap_55 rfl hl (by decide) rfl (fun ls hl => ?_)
                refine lv_iinc (v := nI (k + 1)) (lv' := [(4, .int (nI (k + 1))), (3, .int (bI (vecsN Ms jf (k + 1)))), (0, .ref (o 0)), (1, .int (bI t9)), (2, .int (nI jf))]) hx hb dX7_wrongMap_56 hl (k := 4) rfl (by exact nI_add _ 1) (by decide) rfl (fun ls hl => ?_)
                refine lv_goto (tgt := 26) hx hb dX7_wrongMap_59 (by decide) ?_
                exact ih_1 (k + 1) ls (by omega) (by omega) (lv_sub hl [2, 3, 4, 1, 0] rfl)
              · refine lv_iconst (v := nI 1) hx hb dX7_wrongMap_50 (by decide) ?_
                refine lv_goto (tgt := 55) hx hb dX7_wrongMap_51 (by decide) ?_
                refine e_i (y := bI (vecsN Ms jf (k + 1))) ((by show _ = bI (vecsN Ms jf k && vecB (Ms (jf + k))); rw [bI_1 c_36, Bool.true_and, bI_1 c_47]; rfl)) ?_
                refine lv_istore_n (lv' := [(3, .int (bI (vecsN Ms jf (k + 1)))), (0, .ref (o 0)), (1, .int (bI t9)), (2, .int (nI jf)), (4, .int (nI k))]) hx hb dX7_wrongMap_55 rfl hl (by decide) rfl (fun ls hl => ?_)
                refine lv_iinc (v := nI (k + 1)) (lv' := [(4, .int (nI (k + 1))), (3, .int (bI (vecsN Ms jf (k + 1)))), (0, .ref (o 0)), (1, .int (bI t9)), (2, .int (nI jf))]) hx hb dX7_wrongMap_56 hl (k := 4) rfl (by exact nI_add _ 1) (by decide) rfl (fun ls hl => ?_)
                refine lv_goto (tgt := 26) hx hb dX7_wrongMap_59 (by decide) ?_
                exact ih_1 (k + 1) ls (by omega) (by omega) (lv_sub hl [2, 3, 4, 1, 0] rfl)
      exact loop_1 _ 0 ls (Nat.lt_succ_self _) (by omega) (lv_sub hl [2, 3, 4, 1, 0] rfl)
    · have h_f := bI_0 c_16
      refine lv_iconst (v := nI 1) hx hb dX7_wrongMap_19 (by decide) ?_
      subst hQe
      exact W.iret (v := nI 1) hx hb hr (fun tz ht hW => ⟨_, rfl, (by unfold wmX; rw [if_neg (by rw [ht9]; decide), if_pos h_f]), ht⟩) hS.2.2 dX7_wrongMap_20
set_option maxHeartbeats 4000000 in
theorem x7_mapsTerm {l : Launch} {dC : Nat → ClassId} {dI : Nat → Nat → Nat} {dA : Nat → ClassId} {s0 : State} {b0 : Addr} (Z : Z0 l dC dI dA s0 b0) (A : Nat → Prop) (sz : Nat) (hA : ∀ q : Nat, sz ≤ q → A q) (o : Nat → Nat) (th : Int32) (p0 q0 r0 : Nat) (mu : Int64) (zz : Nat → Int32) (fA fM : Nat → Int64) (Ms : Nat → MV) (k1 b f : Nat) (M : MV) (hn : p0 + q0 + r0 ≤ 5) (hR : ∀ k, k < 8 → Hold fA k (Ms k)) (sR : ∀ k, k < 8 → MSm (Ms k)) (hk1 : k1 < 80) (hk2 : k1 ≠ 25) (hb9 : b < 32) (hf : f + (p0 + q0 + r0) ≤ 8) (hM : Hold fA k1 M) (sM : MSm M) : Met l yX7_mapsTerm (ws_ yX7_mapsTerm cX7_mapsTerm 6 (some .boolean)) ({ frames := 5, cells := 0, slots := 0, locals := 300 } : Room) (gP [.ref (o 0), .int (nI k1), .int (nI b), .int (nI f)] s0 A (fun H => H.size = sz ∧ va_P (dC, dI) vwCl [(o 0, .inr (2, mFs o th p0 q0 r0 mu zz)), (o 5, .inl (dA 1, 2640, .inr (.inl fA))), (o 6, .inl (dA 1, 32, .inr (.inl fM)))] H ∧ va_D A [(o 0, .inr (2, mFs o th p0 q0 r0 mu zz)), (o 5, .inl (dA 1, 2640, .inr (.inl fA))), (o 6, .inl (dA 1, 32, .inr (.inl fM)))])) (va_Qi (S := (Nat → Int64) × (Nat → Int64) × Int64) (fun r u => (∃ P, mtS p0 q0 r0 M b Ms f (p0 + q0 + r0) = some P ∧ r = nI 1 ∧ Hold u.1 25 P ∧ Kp fA u.1 (fun k => k ≠ 25)) ∨ (mtS p0 q0 r0 M b Ms f (p0 + q0 + r0) = none ∧ r = nI 0 ∧ Kp fA u.1 (fun k => k ≠ 25))) (B1 (dC, dI) A (fun u => mC dA o th p0 q0 r0 u.2.2 zz u.1 u.2.1) (fun _ _ => True)) A) 0 0 A := by
  refine Met.ofW (cc := cX7_mapsTerm) (maxL := 6) (ret := (some .boolean)) (by decide) rfl ?_
  intro p e s m args below meth c s₁ B hml hv
  obtain ⟨hav, hG, hsz, hP, hD⟩ := hv
  have hx := B.exec
  have hb := B.bytes
  have hr := B.returns
  have hts := atoms_spec (ws := (ws_ yX7_mapsTerm cX7_mapsTerm 6 (some .boolean))) B.pre
  have hts : ∀ w ∈ lw_all, w.before _ s = true := fun w h => hts w (List.mem_cons_of_mem _ h)
  have hown : s.vm.findClass RX7 = some m.cls := findClass_of_methodNamed B.named
  have hlocks := B.notSynchronized
  have hK := hG.K Z
  subst hsz
  have hS : va_S A s.heap s.heap [] := va_S.rf
  have hl := lv_entry ([.ref (o 0), .int (nI k1), .int (nI b), .int (nI f)]) (n := 6) (Nat.le_of_ble_eq_true rfl)
  rw [show entryFrame m args 6 = entryFrame m ([.ref (o 0), .int (nI k1), .int (nI b), .int (nI f)] : List Value).toArray 6 from by rw [hav], lg_entry_eq]
  generalize (lg_sl ([.ref (o 0), .int (nI k1), .int (nI b), .int (nI f)]) ++ List.replicate (6 - (lg_sl ([.ref (o 0), .int (nI k1), .int (nI b), .int (nI f)])).length) Slot.unset).toArray = ls at hl ⊢
  have hl : lv_has ls 6 [(0, .ref (o 0)), (1, .int (nI k1)), (2, .int (nI b)), (3, .int (nI f))] := hl
  generalize hQe : MQ below _ _ s _ _ _ = Q
  change W p l e ({ frames := 5, cells := 0, slots := 0, locals := 300 } : Room) s m args below meth c s.heap [] 0 0 Q (F0 m 0 ls [])
  refine lv_aload_n hx hb dX7_mapsTerm_0 rfl (lv_at hl 0 rfl) ?_
  refine lv_bipush (v := nI 25) hx hb dX7_mapsTerm_1 (by decide) ?_
  refine lv_aload_n hx hb dX7_mapsTerm_3 rfl (lv_at hl 0 rfl) ?_
  refine lv_iload_n hx hb dX7_mapsTerm_4 rfl (lv_at hl 1 rfl) ?_
  refine lv_iload_n hx hb dX7_mapsTerm_5 rfl (lv_at hl 2 rfl) ?_
  refine s_l (va_runV (As := [.int (nI k1), .int (nI b)]) (rest := [.int (nI 25), .ref (o 0)]) ⟨hx, hb, hml, hown, hts⟩ (x7_of Z o th p0 q0 r0 mu zz fA k1 b (by omega)) (cwV 2 hts (lw_V q2119 q2121 qs38 q107 q2122) rfl rfl rfl (by decide +kernel) ⟨Nat.le_of_ble_eq_true rfl, Nat.le_of_ble_eq_true rfl⟩) (gP_V (va_recv hK hP (ci := 2) (q0 := 0) rfl rfl) hG hS (fun q _ h => h.elim) (hP.sub (ws' := [(o 0, .inr (2, mFs o th p0 q0 r0 mu zz)), (o 5, .inl (dA 1, 2640, .inr (.inl fA)))]) [0, 1] rfl)) rfl rfl hl.1 rfl (lv_room (Nat.le_of_ble_eq_true rfl)) dX7_mapsTerm_6 ⟨by first | decide | omega, by first | decide | omega⟩) ?_
  refine e_l (y := M (b + 1)) (hold_at hM (i := b + 1) (by omega) (by omega)) ?_
  have hF9 := va_free (wc := [(o 0, .inr (2, mFs o th p0 q0 r0 mu zz)), (o 5, .inl (dA 1, 2640, .inr (.inl fA)))]) hD hS (fun q h => hA q h) [0, 1] rfl
  refine c_v (wr := [(o 6, .inl (dA 1, 32, .inr (.inl fM)))]) (va_runV (As := [.int (nI 25), .long (M (b + 1))]) (rest := []) ⟨hx, hb, hml, hown, hts⟩ (x7_laysNumber Z (va_A [(o 0, .inr (2, mFs o th p0 q0 r0 mu zz)), (o 5, .inl (dA 1, 2640, .inr (.inl fA)))] s.heap.size) s.heap.size (fun q h => Or.inr h) o th p0 q0 r0 mu zz fA fM 25 (M (b + 1)) (by omega)) (cwV 2 hts (lw_V q2329 q2331 qs65 q107 q2332) rfl rfl rfl (by decide +kernel) ⟨Nat.le_of_ble_eq_true rfl, Nat.le_of_ble_eq_true rfl⟩) (gP_V (va_recv hK hP (ci := 2) (q0 := 0) rfl rfl) hG hS (fun q _ h => hF9 q h) ⟨rfl, (hP.sub (ws' := [(o 0, .inr (2, mFs o th p0 q0 r0 mu zz)), (o 5, .inl (dA 1, 2640, .inr (.inl fA)))]) [0, 1] rfl), (hD.sub (ws' := [(o 0, .inr (2, mFs o th p0 q0 r0 mu zz)), (o 5, .inl (dA 1, 2640, .inr (.inl fA)))]) [0, 1] (by decide) rfl).self⟩) rfl rfl hl.1 rfl (lv_room (Nat.le_of_ble_eq_true rfl)) dX7_mapsTerm_9 ⟨by first | decide | omega, by first | decide | omega⟩) hP hD hS hA [0, 1] [2] rfl rfl (by decide) (by decide) (fun u9 H locs hq hX hz hk hP hD hS => ?_)
  obtain ⟨fA_1, rfl⟩ : ∃ z, z = u9 := ⟨_, rfl⟩
  have hq_2 := hq
  have hP : va_P (dC, dI) vwCl [(o 6, .inl (dA 1, 32, .inr (.inl fM))), (o 0, .inr (2, mFs o th p0 q0 r0 mu zz)), (o 5, .inl (dA 1, 2640, .inr (.inl fA_1)))] H := hP
  have hD : va_D A [(o 6, .inl (dA 1, 32, .inr (.inl fM))), (o 0, .inr (2, mFs o th p0 q0 r0 mu zz)), (o 5, .inl (dA 1, 2640, .inr (.inl fA_1)))] := hD
  obtain ⟨hH_k_3, hS_k_3⟩ := hq_2
  have hh_4 := hS_k_3.hold (j := k1) (by omega) hM
  refine lv_aload_n hx hb dX7_mapsTerm_12 rfl (lv_at hl 0 rfl) ?_
  refine va_get (D := (dC, dI)) (ci := 2) (v := .ref (o 5)) (C := RX7) (T := TX7) (N := 27) hx hb hts in_X7 hown hK hP 1 rfl rfl 8 (by decide) (hts _ q2014) (fun _ h9 => h9) rfl dX7_mapsTerm_13 ?_
  refine lv_sipush (v := nI 825) hx hb dX7_mapsTerm_16 (by decide) ?_
  refine lv_aload_n hx hb dX7_mapsTerm_19 rfl (lv_at hl 0 rfl) ?_
  refine lv_iload_n hx hb dX7_mapsTerm_20 rfl (lv_at hl 1 rfl) ?_
  refine s_l (va_runV (As := [.int (nI k1)]) (rest := [.int (nI 825), .ref (o 5)]) ⟨hx, hb, hml, hown, hts⟩ (x7_under Z o th p0 q0 r0 mu zz fA_1 k1 (by omega)) (cwV 1 hts (lw_V q2123 q2125 qs39 q107 q2126) rfl rfl rfl (by decide +kernel) ⟨Nat.le_of_ble_eq_true rfl, Nat.le_of_ble_eq_true rfl⟩) (gP_V (va_recv hK hP (ci := 2) (q0 := 1) rfl rfl) hG hS (fun q _ h => h.elim) (hP.sub (ws' := [(o 0, .inr (2, mFs o th p0 q0 r0 mu zz)), (o 5, .inl (dA 1, 2640, .inr (.inl fA_1)))]) [1, 2] rfl)) rfl rfl hl.1 rfl (lv_room (Nat.le_of_ble_eq_true rfl)) dX7_mapsTerm_21 ⟨by first | decide | omega, by first | decide | omega⟩) ?_
  refine e_l (y := M 0) (hold_at hh_4 (i := 0) (by omega) (by omega)) ?_
  refine a_last hx hb hK hP hD hS 2 1 rfl rfl (by omega) (by omega) dX7_mapsTerm_24 (fun H locs hP hD hS => ?_)
  have hP : va_P (dC, dI) vwCl [(o 6, .inl (dA 1, 32, .inr (.inl fM))), (o 0, .inr (2, mFs o th p0 q0 r0 mu zz)), (o 5, .inl (dA 1, 2640, .inr (.inl (vp_updL fA_1 825 (M 0)))))] H := hP
  have hD : va_D A [(o 6, .inl (dA 1, 32, .inr (.inl fM))), (o 0, .inr (2, mFs o th p0 q0 r0 mu zz)), (o 5, .inl (dA 1, 2640, .inr (.inl (vp_updL fA_1 825 (M 0)))))] := hD
  have hh_6 := frc_hold (u := M 0) hH_k_3
  have hs_7 := up_same (f := fA_1) (k := 25) (n := 825) (x := M 0) (by omega)
  generalize vp_updL fA_1 825 (M 0) = fA_5 at hP hD hh_6 hs_7
  have hh_8 := hs_7.hold (j := k1) (by omega) hh_4
  refine lv_aload_n hx hb dX7_mapsTerm_25 rfl (lv_at hl 0 rfl) ?_
  refine lv_bipush (v := nI 25) hx hb dX7_mapsTerm_26 (by decide) ?_
  refine lv_lconst (v := 1) hx hb dX7_mapsTerm_28 rfl ?_
  refine lv_lconst (v := 1) hx hb dX7_mapsTerm_29 rfl ?_
  refine lv_bipush (v := nI 25) hx hb dX7_mapsTerm_30 (by decide) ?_
  have hF9 := va_free (wc := [(o 0, .inr (2, mFs o th p0 q0 r0 mu zz)), (o 5, .inl (dA 1, 2640, .inr (.inl fA_5))), (o 6, .inl (dA 1, 32, .inr (.inl fM)))]) hD hS (fun q h => hA q h) [1, 2, 0] rfl
  refine c_i (wr := []) (va_runV (As := [.int (nI 25), .long 1, .long 1, .int (nI 25)]) (rest := []) ⟨hx, hb, hml, hown, hts⟩ (x7_scales Z (va_A [(o 0, .inr (2, mFs o th p0 q0 r0 mu zz)), (o 5, .inl (dA 1, 2640, .inr (.inl fA_5))), (o 6, .inl (dA 1, 32, .inr (.inl fM)))] H.size) H.size (fun q h => Or.inr h) o th p0 q0 r0 mu zz fA_5 fM 25 25 1 1 (frcM (M 0) (M (b + 1))) (by unfold sm8; decide) (by unfold sm8; decide) (by decide) (by omega) (by omega) hh_6 (frcM_sm ⟨sM.1, sM.2.1⟩ (sM.c hb9))) (cwV 4 hts (lw_V q2176 q2178 qs47 q107 q2179) rfl rfl rfl (by decide +kernel) ⟨Nat.le_of_ble_eq_true rfl, Nat.le_of_ble_eq_true rfl⟩) (gP_V (va_recv hK hP (ci := 2) (q0 := 1) rfl rfl) hG hS (fun q _ h => hF9 q h) ⟨rfl, (hP.sub (ws' := [(o 0, .inr (2, mFs o th p0 q0 r0 mu zz)), (o 5, .inl (dA 1, 2640, .inr (.inl fA_5))), (o 6, .inl (dA 1, 32, .inr (.inl fM)))]) [1, 2, 0] rfl), (hD.sub (ws' := [(o 0, .inr (2, mFs o th p0 q0 r0 mu zz)), (o 5, .inl (dA 1, 2640, .inr (.inl fA_5))), (o 6, .inl (dA 1, 32, .inr (.inl fM)))]) [1, 2, 0] (by decide) rfl).self⟩) rfl rfl hl.1 rfl (lv_room (Nat.le_of_ble_eq_true rfl)) dX7_mapsTerm_32 ⟨by first | decide | omega, by first | decide | omega⟩) hP hD hS hA [1, 2, 0] [] rfl rfl (by decide) (by decide) (fun r9 u9 H locs hq hX hz hk hP hD hS => ?_)
  obtain ⟨fA_9, fM_10, mu_11⟩ := u9
  obtain ⟨r_12, rfl⟩ : ∃ z, z = r9 := ⟨_, rfl⟩
  have hq_13 := hq
  try dsimp only at hq_13
  have hP : va_P (dC, dI) vwCl [(o 0, .inr (2, mFs o th p0 q0 r0 mu_11 zz)), (o 5, .inl (dA 1, 2640, .inr (.inl fA_9))), (o 6, .inl (dA 1, 32, .inr (.inl fM_10)))] H := hP
  have hD : va_D A [(o 0, .inr (2, mFs o th p0 q0 r0 mu_11 zz)), (o 5, .inl (dA 1, 2640, .inr (.inl fA_9))), (o 6, .inl (dA 1, 32, .inr (.inl fM_10)))] := hD
  rcases hq_13.cases with ⟨P_14, e_14, rfl, hH_14, hS_14⟩ | ⟨e_14, rfl, hE_14⟩
  · have sm_15 : MSm P_14 := scaS_sm (by unfold sm8; decide) (by decide) (frcM_sm ⟨sM.1, sM.2.1⟩ (sM.c hb9)) e_14
    have hh_16 := hS_14.hold (j := k1) (by omega) hh_8
    refine lv_istore (lv' := [(4, .int (nI 1)), (0, .ref (o 0)), (1, .int (nI k1)), (2, .int (nI b)), (3, .int (nI f))]) hx hb dX7_mapsTerm_35 hl (by decide) rfl (fun ls hl => ?_)
    refine lv_iconst (v := nI 0) hx hb dX7_mapsTerm_37 (by decide) ?_
    refine lv_istore (lv' := [(5, .int (nI 0)), (4, .int (nI 1)), (0, .ref (o 0)), (1, .int (nI k1)), (2, .int (nI b)), (3, .int (nI f))]) hx hb dX7_mapsTerm_38 hl (by decide) rfl (fun ls hl => ?_)
    have loop_17 : ∀ (n9_17 : Nat) (k : Nat) (fB : Nat → Int64) (fN : Nat → Int64) (mv : Int64) (Pk : MV) (H : Heap) (locs : List Loc) (ls : Array Slot), p0 + q0 + r0 - k < n9_17 → (k ≤ p0 + q0 + r0) → (mtS p0 q0 r0 M b Ms f k = some Pk) → (Hold fB 25 Pk) → (MSm Pk) → (Kp fA fB (fun k => k ≠ 25)) → va_P (dC, dI) vwCl [(o 0, .inr (2, mFs o th p0 q0 r0 mv zz)), (o 5, .inl (dA 1, 2640, .inr (.inl fB))), (o 6, .inl (dA 1, 32, .inr (.inl fN)))] H → va_D A [(o 0, .inr (2, mFs o th p0 q0 r0 mv zz)), (o 5, .inl (dA 1, 2640, .inr (.inl fB))), (o 6, .inl (dA 1, 32, .inr (.inl fN)))] → va_S A s.heap H locs → lv_has ls 6 [(0, .ref (o 0)), (1, .int (nI k1)), (2, .int (nI b)), (3, .int (nI f)), (4, .int (nI 1)), (5, .int (nI k))] → W p l e ({ frames := 5, cells := 0, slots := 0, locals := 300 } : Room) s m args below meth c H locs 0 0 Q (F0 m 40 ls []) := by
      intro n9_17
      induction n9_17 with
      | zero => intro k fB fN mv Pk H locs ls hm_17; exact absurd hm_17 (Nat.not_lt_zero _)
      | succ n9_17 ih_17 =>
        intro k fB fN mv Pk H locs ls hm_17 hk9 hp9 hh9 sm9 kp9 hP hD hS hl
        refine lv_iload hx hb dX7_mapsTerm_40 (lv_at hl 5 rfl) ?_
        refine lv_aload_n hx hb dX7_mapsTerm_42 rfl (lv_at hl 0 rfl) ?_
        refine s_i (va_runV (As := []) (rest := [.int (nI k)]) ⟨hx, hb, hml, hown, hts⟩ (x7_n Z o th p0 q0 r0 mv zz) (cwV 0 hts (lw_V q2151 q2153 qs44 q107 q2154) rfl rfl rfl (by decide +kernel) ⟨Nat.le_of_ble_eq_true rfl, Nat.le_of_ble_eq_true rfl⟩) (gP_V (va_recv hK hP (ci := 2) (q0 := 0) rfl rfl) hG hS (fun q _ h => h.elim) (hP.sub (ws' := [(o 0, .inr (2, mFs o th p0 q0 r0 mv zz))]) [0] rfl)) rfl rfl hl.1 rfl (lv_room (Nat.le_of_ble_eq_true rfl)) dX7_mapsTerm_43 ⟨by first | decide | omega, by first | decide | omega⟩) ?_
        refine lv_icmp_ge (tgt := 85) hx hb dX7_mapsTerm_46 (by decide) (fun c_46 => ?_) (fun c_46 => ?_)
        · have c_46 : (p0 + q0 + r0) ≤ k := (nI_leI (a := (p0 + q0 + r0)) (b := k) (by omega) (by omega)).mp c_46
          obtain rfl : k = p0 + q0 + r0 := by omega
          refine lv_iload hx hb dX7_mapsTerm_85 (lv_at hl 4 rfl) ?_
          subst hQe
          exact W.zret (v := nI 1) hx hb hr rfl (fun tz ht hW => ⟨⟨_, (fB, fN, mv), rfl, Or.inl ⟨Pk, hp9, rfl, hh9, kp9⟩, B1_at ht (hP.sub [0, 1, 2] rfl) (hD.sub [0, 1, 2] (by decide) rfl) trivial⟩, hS.F ht⟩) hS.2.2 dX7_mapsTerm_87
        · have c_46 : ¬ (p0 + q0 + r0) ≤ k := fun h => c_46 ((nI_leI (a := (p0 + q0 + r0)) (b := k) (by omega) (by omega)).mpr h)
          refine lv_iload hx hb dX7_mapsTerm_49 (lv_at hl 4 rfl) ?_
          refine lv_if_eq (tgt := 85) hx hb dX7_mapsTerm_51 (by decide) (fun c_51 => ?_) (fun c_51 => ?_)
          · exact absurd c_51 (by decide)
          refine lv_iload_n hx hb dX7_mapsTerm_54 rfl (lv_at hl 2 rfl) ?_
          refine lv_iload hx hb dX7_mapsTerm_55 (lv_at hl 5 rfl) ?_
          refine lv_ishr hx hb dX7_mapsTerm_57 ?_
          refine e_i (y := nI (b / 2 ^ k)) (n_shr (by omega) (by omega)) ?_
          refine lv_iconst (v := nI 1) hx hb dX7_mapsTerm_58 (by decide) ?_
          refine lv_iand hx hb dX7_mapsTerm_59 ?_
          refine e_i (y := nI ((b / 2 ^ k) &&& 1)) (n_and _ _) ?_
          refine lv_iconst (v := nI 1) hx hb dX7_mapsTerm_60 (by decide) ?_
          refine lv_icmp_ne (tgt := 79) hx hb dX7_mapsTerm_61 (by decide) (fun c_61 => ?_) (fun c_61 => ?_)
          · have c_61 : ¬ ((b / 2 ^ k) &&& 1) = 1 := fun h => c_61 ((nI_eq (a := ((b / 2 ^ k) &&& 1)) (b := 1) (Nat.lt_of_le_of_lt Nat.and_le_right (by decide)) (by omega)).mpr h)
            refine lv_iinc (v := nI (k + 1)) (lv' := [(5, .int (nI (k + 1))), (0, .ref (o 0)), (1, .int (nI k1)), (2, .int (nI b)), (3, .int (nI f)), (4, .int (nI 1))]) hx hb dX7_mapsTerm_79 hl (k := 5) rfl (by exact nI_add _ 1) (by decide) rfl (fun ls hl => ?_)
            refine lv_goto (tgt := 40) hx hb dX7_mapsTerm_82 (by decide) ?_
            exact ih_17 (k + 1) fB fN mv Pk H locs ls (by omega) (by omega) (by show (match mtS p0 q0 r0 M b Ms f k with | none => none | some P => if b / 2 ^ k &&& 1 = 1 then mulS 3 p0 q0 r0 P (Ms (f + k)) else some P) = _; rw [hp9]; exact if_neg c_61) hh9 sm9 (fun k9 hk9 i9 hi9 => by (try dsimp only [outH] at hk9); show fB (33 * k9 + i9) = fA (33 * k9 + i9); rw [kp9 k9 (by omega) i9 hi9]) (hP.sub [0, 1, 2] rfl) (hD.sub [0, 1, 2] (by decide) rfl) hS (lv_sub hl [1, 2, 3, 4, 5, 0] rfl)
          · have c_61 : ((b / 2 ^ k) &&& 1) = 1 := (nI_eq (a := ((b / 2 ^ k) &&& 1)) (b := 1) (Nat.lt_of_le_of_lt Nat.and_le_right (by decide)) (by omega)).mp c_61
            refine lv_aload_n hx hb dX7_mapsTerm_64 rfl (lv_at hl 0 rfl) ?_
            refine lv_iconst (v := nI 3) hx hb dX7_mapsTerm_65 (by decide) ?_
            refine lv_bipush (v := nI 25) hx hb dX7_mapsTerm_66 (by decide) ?_
            refine lv_iload_n hx hb dX7_mapsTerm_68 rfl (lv_at hl 3 rfl) ?_
            refine lv_iload hx hb dX7_mapsTerm_69 (lv_at hl 5 rfl) ?_
            refine lv_iadd hx hb dX7_mapsTerm_71 ?_
            refine e_i (y := nI (f + k)) (nI_add _ _) ?_
            refine lv_bipush (v := nI 25) hx hb dX7_mapsTerm_72 (by decide) ?_
            have hF9 := va_free (wc := [(o 0, .inr (2, mFs o th p0 q0 r0 mv zz)), (o 5, .inl (dA 1, 2640, .inr (.inl fB))), (o 6, .inl (dA 1, 32, .inr (.inl fN)))]) hD hS (fun q h => hA q h) [0, 1, 2] rfl
            refine c_i (wr := []) (va_runV (As := [.int (nI 3), .int (nI 25), .int (nI (f + k)), .int (nI 25)]) (rest := []) ⟨hx, hb, hml, hown, hts⟩ (x7_multiplies Z (va_A [(o 0, .inr (2, mFs o th p0 q0 r0 mv zz)), (o 5, .inl (dA 1, 2640, .inr (.inl fB))), (o 6, .inl (dA 1, 32, .inr (.inl fN)))] H.size) H.size (fun q h => Or.inr h) o th p0 q0 r0 mv zz fB fN 3 25 (f + k) 25 Pk (Ms (f + k)) hn (by omega) (by omega) (by omega) (by omega) (by omega) hh9 (kp9.hold (k := f + k) (by omega) (hR (f + k) (by omega))) sm9 (sR (f + k) (by omega))) (cwV 4 hts (lw_V q2168 q2170 qs46 q107 q2171) rfl rfl rfl (by decide +kernel) ⟨Nat.le_of_ble_eq_true rfl, Nat.le_of_ble_eq_true rfl⟩) (gP_V (va_recv hK hP (ci := 2) (q0 := 0) rfl rfl) hG hS (fun q _ h => hF9 q h) ⟨rfl, (hP.sub (ws' := [(o 0, .inr (2, mFs o th p0 q0 r0 mv zz)), (o 5, .inl (dA 1, 2640, .inr (.inl fB))), (o 6, .inl (dA 1, 32, .inr (.inl fN)))]) [0, 1, 2] rfl), (hD.sub (ws' := [(o 0, .inr (2, mFs o th p0 q0 r0 mv zz)), (o 5, .inl (dA 1, 2640, .inr (.inl fB))), (o 6, .inl (dA 1, 32, .inr (.inl fN)))]) [0, 1, 2] (by decide) rfl).self⟩) rfl rfl hl.1 rfl (lv_room (Nat.le_of_ble_eq_true rfl)) dX7_mapsTerm_74 ⟨by first | decide | omega, by first | decide | omega⟩) hP hD hS hA [0, 1, 2] [] rfl rfl (by decide) (by decide) (fun r9 u9 H locs hq hX hz hk hP hD hS => ?_)
            obtain ⟨fA_18, fM_19, mu_20⟩ := u9
            obtain ⟨r_21, rfl⟩ : ∃ z, z = r9 := ⟨_, rfl⟩
            have hq_22 := hq
            try dsimp only at hq_22
            have hP : va_P (dC, dI) vwCl [(o 0, .inr (2, mFs o th p0 q0 r0 mu_20 zz)), (o 5, .inl (dA 1, 2640, .inr (.inl fA_18))), (o 6, .inl (dA 1, 32, .inr (.inl fM_19)))] H := hP
            have hD : va_D A [(o 0, .inr (2, mFs o th p0 q0 r0 mu_20 zz)), (o 5, .inl (dA 1, 2640, .inr (.inl fA_18))), (o 6, .inl (dA 1, 32, .inr (.inl fM_19)))] := hD
            rcases hq_22.cases with ⟨P_23, e_23, rfl, hH_23, hS_23⟩ | ⟨e_23, rfl, hE_23⟩
            · have sm_24 : MSm P_23 := mulS_sm sm9 (sR (f + k) (by omega)) e_23
              have hh_25 := hS_23.hold (j := (f + k)) (by omega) (kp9.hold (k := f + k) (by omega) (hR (f + k) (by omega)))
              refine lv_istore (lv' := [(4, .int (nI 1)), (0, .ref (o 0)), (1, .int (nI k1)), (2, .int (nI b)), (3, .int (nI f)), (5, .int (nI k))]) hx hb dX7_mapsTerm_77 hl (by decide) rfl (fun ls hl => ?_)
              refine lv_iinc (v := nI (k + 1)) (lv' := [(5, .int (nI (k + 1))), (4, .int (nI 1)), (0, .ref (o 0)), (1, .int (nI k1)), (2, .int (nI b)), (3, .int (nI f))]) hx hb dX7_mapsTerm_79 hl (k := 5) rfl (by exact nI_add _ 1) (by decide) rfl (fun ls hl => ?_)
              refine lv_goto (tgt := 40) hx hb dX7_mapsTerm_82 (by decide) ?_
              exact ih_17 (k + 1) fA_18 fM_19 mu_20 P_23 H locs ls (by omega) (by omega) (by show (match mtS p0 q0 r0 M b Ms f k with | none => none | some P => if b / 2 ^ k &&& 1 = 1 then mulS 3 p0 q0 r0 P (Ms (f + k)) else some P) = _; rw [hp9]; exact (if_pos c_61).trans e_23) hH_23 sm_24 (fun k9 hk9 i9 hi9 => by (try dsimp only [outH] at hk9); show fA_18 (33 * k9 + i9) = fA (33 * k9 + i9); rw [hS_23 _ (by omega), kp9 k9 (by omega) i9 hi9]) (hP.sub [0, 1, 2] rfl) (hD.sub [0, 1, 2] (by decide) rfl) hS (lv_sub hl [2, 3, 4, 5, 1, 0] rfl)
            · have hh_26 : Hold fA_18 25 Pk := by rw [hE_23]; exact hh9
              have hh_27 : Hold fA_18 (f + k) (Ms (f + k)) := by rw [hE_23]; exact (kp9.hold (k := f + k) (by omega) (hR (f + k) (by omega)))
              refine lv_istore (lv' := [(4, .int (nI 0)), (0, .ref (o 0)), (1, .int (nI k1)), (2, .int (nI b)), (3, .int (nI f)), (5, .int (nI k))]) hx hb dX7_mapsTerm_77 hl (by decide) rfl (fun ls hl => ?_)
              refine lv_iinc (v := nI (k + 1)) (lv' := [(5, .int (nI (k + 1))), (4, .int (nI 0)), (0, .ref (o 0)), (1, .int (nI k1)), (2, .int (nI b)), (3, .int (nI f))]) hx hb dX7_mapsTerm_79 hl (k := 5) rfl (by exact nI_add _ 1) (by decide) rfl (fun ls hl => ?_)
              refine lv_goto (tgt := 40) hx hb dX7_mapsTerm_82 (by decide) ?_
              refine lv_iload hx hb dX7_mapsTerm_40 (lv_at hl 0 rfl) ?_
              refine lv_aload_n hx hb dX7_mapsTerm_42 rfl (lv_at hl 2 rfl) ?_
              refine s_i (va_runV (As := []) (rest := [.int (nI (k + 1))]) ⟨hx, hb, hml, hown, hts⟩ (x7_n Z o th p0 q0 r0 mu_20 zz) (cwV 0 hts (lw_V q2151 q2153 qs44 q107 q2154) rfl rfl rfl (by decide +kernel) ⟨Nat.le_of_ble_eq_true rfl, Nat.le_of_ble_eq_true rfl⟩) (gP_V (va_recv hK hP (ci := 2) (q0 := 0) rfl rfl) hG hS (fun q _ h => h.elim) (hP.sub (ws' := [(o 0, .inr (2, mFs o th p0 q0 r0 mu_20 zz))]) [0] rfl)) rfl rfl hl.1 rfl (lv_room (Nat.le_of_ble_eq_true rfl)) dX7_mapsTerm_43 ⟨by first | decide | omega, by first | decide | omega⟩) ?_
              refine lv_icmp_ge (tgt := 85) hx hb dX7_mapsTerm_46 (by decide) (fun c_46 => ?_) (fun c_46 => ?_)
              · have c_46 : (p0 + q0 + r0) ≤ (k + 1) := (nI_leI (a := (p0 + q0 + r0)) (b := (k + 1)) (by omega) (by omega)).mp c_46
                refine lv_iload hx hb dX7_mapsTerm_85 (lv_at hl 1 rfl) ?_
                subst hQe
                exact W.zret (v := nI 0) hx hb hr rfl (fun tz ht hW => ⟨⟨_, (fA_18, fM_19, mu_20), rfl, Or.inr ⟨mtS_none (m := p0 + q0 + r0) (show mtS p0 q0 r0 M b Ms f (k + 1) = none from by show (match mtS p0 q0 r0 M b Ms f k with | none => none | some P => if b / 2 ^ k &&& 1 = 1 then mulS 3 p0 q0 r0 P (Ms (f + k)) else some P) = _; rw [hp9]; exact (if_pos c_61).trans e_23) (by omega), rfl, (fun k9 hk9 i9 hi9 => by (try dsimp only [outH] at hk9); show fA_18 (33 * k9 + i9) = fA (33 * k9 + i9); rw [hE_23, kp9 k9 (by omega) i9 hi9])⟩, B1_at ht (hP.sub [0, 1, 2] rfl) (hD.sub [0, 1, 2] (by decide) rfl) trivial⟩, hS.F ht⟩) hS.2.2 dX7_mapsTerm_87
              · have c_46 : ¬ (p0 + q0 + r0) ≤ (k + 1) := fun h => c_46 ((nI_leI (a := (p0 + q0 + r0)) (b := (k + 1)) (by omega) (by omega)).mpr h)
                refine lv_iload hx hb dX7_mapsTerm_49 (lv_at hl 1 rfl) ?_
                refine lv_if_eq (tgt := 85) hx hb dX7_mapsTerm_51 (by decide) (fun c_51 => ?_) (fun c_51 => ?_)
                rotate_left
                · exact absurd (by decide) c_51
                refine lv_iload hx hb dX7_mapsTerm_85 (lv_at hl 1 rfl) ?_
                subst hQe
                exact W.zret (v := nI 0) hx hb hr rfl (fun tz ht hW => ⟨⟨_, (fA_18, fM_19, mu_20), rfl, Or.inr ⟨mtS_none (m := p0 + q0 + r0) (show mtS p0 q0 r0 M b Ms f (k + 1) = none from by show (match mtS p0 q0 r0 M b Ms f k with | none => none | some P => if b / 2 ^ k &&& 1 = 1 then mulS 3 p0 q0 r0 P (Ms (f + k)) else some P) = _; rw [hp9]; exact (if_pos c_61).trans e_23) (by omega), rfl, (fun k9 hk9 i9 hi9 => by (try dsimp only [outH] at hk9); show fA_18 (33 * k9 + i9) = fA (33 * k9 + i9); rw [hE_23, kp9 k9 (by omega) i9 hi9])⟩, B1_at ht (hP.sub [0, 1, 2] rfl) (hD.sub [0, 1, 2] (by decide) rfl) trivial⟩, hS.F ht⟩) hS.2.2 dX7_mapsTerm_87
    exact loop_17 _ 0 fA_9 fM_10 mu_11 P_14 H locs ls (Nat.lt_succ_self _) (by omega) e_14 hH_14 sm_15 (fun k9 hk9 i9 hi9 => by (try dsimp only [outH] at hk9); show fA_9 (33 * k9 + i9) = fA (33 * k9 + i9); rw [hS_14 _ (by omega), hs_7 _ (by omega), hS_k_3 _ (by omega)]) hP hD hS (lv_sub hl [2, 3, 4, 5, 1, 0] rfl)
  · have hh_28 : Hold fA_9 k1 M := by rw [hE_14]; exact hh_8
    have hh_29 : Hold fA_9 25 (frcM (M 0) (M (b + 1))) := by rw [hE_14]; exact hh_6
    refine lv_istore (lv' := [(4, .int (nI 0)), (0, .ref (o 0)), (1, .int (nI k1)), (2, .int (nI b)), (3, .int (nI f))]) hx hb dX7_mapsTerm_35 hl (by decide) rfl (fun ls hl => ?_)
    refine lv_iconst (v := nI 0) hx hb dX7_mapsTerm_37 (by decide) ?_
    refine lv_istore (lv' := [(5, .int (nI 0)), (4, .int (nI 0)), (0, .ref (o 0)), (1, .int (nI k1)), (2, .int (nI b)), (3, .int (nI f))]) hx hb dX7_mapsTerm_38 hl (by decide) rfl (fun ls hl => ?_)
    refine lv_iload hx hb dX7_mapsTerm_40 (lv_at hl 0 rfl) ?_
    refine lv_aload_n hx hb dX7_mapsTerm_42 rfl (lv_at hl 2 rfl) ?_
    refine s_i (va_runV (As := []) (rest := [.int (nI 0)]) ⟨hx, hb, hml, hown, hts⟩ (x7_n Z o th p0 q0 r0 mu_11 zz) (cwV 0 hts (lw_V q2151 q2153 qs44 q107 q2154) rfl rfl rfl (by decide +kernel) ⟨Nat.le_of_ble_eq_true rfl, Nat.le_of_ble_eq_true rfl⟩) (gP_V (va_recv hK hP (ci := 2) (q0 := 0) rfl rfl) hG hS (fun q _ h => h.elim) (hP.sub (ws' := [(o 0, .inr (2, mFs o th p0 q0 r0 mu_11 zz))]) [0] rfl)) rfl rfl hl.1 rfl (lv_room (Nat.le_of_ble_eq_true rfl)) dX7_mapsTerm_43 ⟨by first | decide | omega, by first | decide | omega⟩) ?_
    refine lv_icmp_ge (tgt := 85) hx hb dX7_mapsTerm_46 (by decide) (fun c_46 => ?_) (fun c_46 => ?_)
    · have c_46 : (p0 + q0 + r0) ≤ 0 := (nI_leI (a := (p0 + q0 + r0)) (b := 0) (by omega) (by omega)).mp c_46
      refine lv_iload hx hb dX7_mapsTerm_85 (lv_at hl 1 rfl) ?_
      subst hQe
      exact W.zret (v := nI 0) hx hb hr rfl (fun tz ht hW => ⟨⟨_, (fA_9, fM_10, mu_11), rfl, Or.inr ⟨mtS_none (m := p0 + q0 + r0) (n := 0) e_14 (by omega), rfl, (fun k9 hk9 i9 hi9 => by (try dsimp only [outH] at hk9); show fA_9 (33 * k9 + i9) = fA (33 * k9 + i9); rw [hE_14, hs_7 _ (by omega), hS_k_3 _ (by omega)])⟩, B1_at ht (hP.sub [0, 1, 2] rfl) (hD.sub [0, 1, 2] (by decide) rfl) trivial⟩, hS.F ht⟩) hS.2.2 dX7_mapsTerm_87
    · have c_46 : ¬ (p0 + q0 + r0) ≤ 0 := fun h => c_46 ((nI_leI (a := (p0 + q0 + r0)) (b := 0) (by omega) (by omega)).mpr h)
      refine lv_iload hx hb dX7_mapsTerm_49 (lv_at hl 1 rfl) ?_
      refine lv_if_eq (tgt := 85) hx hb dX7_mapsTerm_51 (by decide) (fun c_51 => ?_) (fun c_51 => ?_)
      rotate_left
      · exact absurd (by decide) c_51
      refine lv_iload hx hb dX7_mapsTerm_85 (lv_at hl 1 rfl) ?_
      subst hQe
      exact W.zret (v := nI 0) hx hb hr rfl (fun tz ht hW => ⟨⟨_, (fA_9, fM_10, mu_11), rfl, Or.inr ⟨mtS_none (m := p0 + q0 + r0) (n := 0) e_14 (by omega), rfl, (fun k9 hk9 i9 hi9 => by (try dsimp only [outH] at hk9); show fA_9 (33 * k9 + i9) = fA (33 * k9 + i9); rw [hE_14, hs_7 _ (by omega), hS_k_3 _ (by omega)])⟩, B1_at ht (hP.sub [0, 1, 2] rfl) (hD.sub [0, 1, 2] (by decide) rfl) trivial⟩, hS.F ht⟩) hS.2.2 dX7_mapsTerm_87
set_option maxHeartbeats 4000000 in
theorem x7_maps {l : Launch} {dC : Nat → ClassId} {dI : Nat → Nat → Nat} {dA : Nat → ClassId} {s0 : State} {b0 : Addr} (Z : Z0 l dC dI dA s0 b0) (A : Nat → Prop) (sz : Nat) (hA : ∀ q : Nat, sz ≤ q → A q) (o : Nat → Nat) (th : Int32) (p0 q0 r0 : Nat) (mu : Int64) (zz : Nat → Int32) (fA fM : Nat → Int64) (Ms : Nat → MV) (k1 f : Nat) (M : MV) (hn : p0 + q0 + r0 ≤ 5) (hR : ∀ k, k < 8 → Hold fA k (Ms k)) (sR : ∀ k, k < 8 → MSm (Ms k)) (hk1 : k1 < 80) (hk2 : k1 ≠ 25 ∧ k1 ≠ 24) (hf : f + (p0 + q0 + r0) ≤ 8) (hM : Hold fA k1 M) (sM : MSm M) : Met l yX7_maps (ws_ yX7_maps cX7_maps 5 (some .boolean)) ({ frames := 6, cells := 0, slots := 0, locals := 360 } : Room) (gP [.ref (o 0), .int (nI k1), .int (nI f)] s0 A (fun H => H.size = sz ∧ va_P (dC, dI) vwCl [(o 0, .inr (2, mFs o th p0 q0 r0 mu zz)), (o 5, .inl (dA 1, 2640, .inr (.inl fA))), (o 6, .inl (dA 1, 32, .inr (.inl fM)))] H ∧ va_D A [(o 0, .inr (2, mFs o th p0 q0 r0 mu zz)), (o 5, .inl (dA 1, 2640, .inr (.inl fA))), (o 6, .inl (dA 1, 32, .inr (.inl fM)))])) (va_Qi (S := (Nat → Int64) × (Nat → Int64) × Int64) (fun r u => (∃ P, mpS p0 q0 r0 M Ms f (2 ^ (p0 + q0 + r0)) = some P ∧ r = nI 1 ∧ Hold u.1 24 P ∧ Kp fA u.1 (fun k => k ≠ 24 ∧ k ≠ 25)) ∨ (mpS p0 q0 r0 M Ms f (2 ^ (p0 + q0 + r0)) = none ∧ r = nI 0 ∧ Kp fA u.1 (fun k => k ≠ 24 ∧ k ≠ 25))) (B1 (dC, dI) A (fun u => mC dA o th p0 q0 r0 u.2.2 zz u.1 u.2.1) (fun _ _ => True)) A) 0 0 A := by
  refine Met.ofW (cc := cX7_maps) (maxL := 5) (ret := (some .boolean)) (by decide) rfl ?_
  intro p e s m args below meth c s₁ B hml hv
  obtain ⟨hav, hG, hsz, hP, hD⟩ := hv
  have hx := B.exec
  have hb := B.bytes
  have hr := B.returns
  have hts := atoms_spec (ws := (ws_ yX7_maps cX7_maps 5 (some .boolean))) B.pre
  have hts : ∀ w ∈ lw_all, w.before _ s = true := fun w h => hts w (List.mem_cons_of_mem _ h)
  have hown : s.vm.findClass RX7 = some m.cls := findClass_of_methodNamed B.named
  have hlocks := B.notSynchronized
  have hK := hG.K Z
  subst hsz
  have hS : va_S A s.heap s.heap [] := va_S.rf
  have hl := lv_entry ([.ref (o 0), .int (nI k1), .int (nI f)]) (n := 5) (Nat.le_of_ble_eq_true rfl)
  rw [show entryFrame m args 5 = entryFrame m ([.ref (o 0), .int (nI k1), .int (nI f)] : List Value).toArray 5 from by rw [hav], lg_entry_eq]
  generalize (lg_sl ([.ref (o 0), .int (nI k1), .int (nI f)]) ++ List.replicate (5 - (lg_sl ([.ref (o 0), .int (nI k1), .int (nI f)])).length) Slot.unset).toArray = ls at hl ⊢
  have hl : lv_has ls 5 [(0, .ref (o 0)), (1, .int (nI k1)), (2, .int (nI f))] := hl
  generalize hQe : MQ below _ _ s _ _ _ = Q
  change W p l e ({ frames := 6, cells := 0, slots := 0, locals := 360 } : Room) s m args below meth c s.heap [] 0 0 Q (F0 m 0 ls [])
  have h5 := pow5 hn
  refine lv_aload_n hx hb dX7_maps_0 rfl (lv_at hl 0 rfl) ?_
  refine lv_bipush (v := nI 24) hx hb dX7_maps_1 (by decide) ?_
  have hF9 := va_free (wc := [(o 0, .inr (2, mFs o th p0 q0 r0 mu zz)), (o 5, .inl (dA 1, 2640, .inr (.inl fA)))]) hD hS (fun q h => hA q h) [0, 1] rfl
  refine c_v (wr := [(o 6, .inl (dA 1, 32, .inr (.inl fM)))]) (va_runV (As := [.int (nI 24)]) (rest := []) ⟨hx, hb, hml, hown, hts⟩ (x7_empties Z (va_A [(o 0, .inr (2, mFs o th p0 q0 r0 mu zz)), (o 5, .inl (dA 1, 2640, .inr (.inl fA)))] s.heap.size) s.heap.size (fun q h => Or.inr h) o th p0 q0 r0 mu zz fA fM 24 (by omega)) (cwV 1 hts (lw_V q2221 q2223 qs54 q107 q2224) rfl rfl rfl (by decide +kernel) ⟨Nat.le_of_ble_eq_true rfl, Nat.le_of_ble_eq_true rfl⟩) (gP_V (va_recv hK hP (ci := 2) (q0 := 0) rfl rfl) hG hS (fun q _ h => hF9 q h) ⟨rfl, (hP.sub (ws' := [(o 0, .inr (2, mFs o th p0 q0 r0 mu zz)), (o 5, .inl (dA 1, 2640, .inr (.inl fA)))]) [0, 1] rfl), (hD.sub (ws' := [(o 0, .inr (2, mFs o th p0 q0 r0 mu zz)), (o 5, .inl (dA 1, 2640, .inr (.inl fA)))]) [0, 1] (by decide) rfl).self⟩) rfl rfl hl.1 rfl (lv_room (Nat.le_of_ble_eq_true rfl)) dX7_maps_3 ⟨by first | decide | omega, by first | decide | omega⟩) hP hD hS hA [0, 1] [2] rfl rfl (by decide) (by decide) (fun u9 H locs hq hX hz hk hP hD hS => ?_)
  obtain ⟨fA_1, rfl⟩ : ∃ z, z = u9 := ⟨_, rfl⟩
  have hq_2 := hq
  have hP : va_P (dC, dI) vwCl [(o 6, .inl (dA 1, 32, .inr (.inl fM))), (o 0, .inr (2, mFs o th p0 q0 r0 mu zz)), (o 5, .inl (dA 1, 2640, .inr (.inl fA_1)))] H := hP
  have hD : va_D A [(o 6, .inl (dA 1, 32, .inr (.inl fM))), (o 0, .inr (2, mFs o th p0 q0 r0 mu zz)), (o 5, .inl (dA 1, 2640, .inr (.inl fA_1)))] := hD
  obtain ⟨hH_k_3, hS_k_3⟩ := hq_2
  have hh_4 := hS_k_3.hold (j := k1) (by omega) hM
  refine lv_iconst (v := nI 1) hx hb dX7_maps_6 (by decide) ?_
  refine lv_istore_n (lv' := [(3, .int (nI 1)), (0, .ref (o 0)), (1, .int (nI k1)), (2, .int (nI f))]) hx hb dX7_maps_7 rfl hl (by decide) rfl (fun ls hl => ?_)
  refine lv_iconst (v := nI 0) hx hb dX7_maps_8 (by decide) ?_
  refine lv_istore (lv' := [(4, .int (nI 0)), (3, .int (nI 1)), (0, .ref (o 0)), (1, .int (nI k1)), (2, .int (nI f))]) hx hb dX7_maps_9 hl (by decide) rfl (fun ls hl => ?_)
  have loop_5 : ∀ (n9_5 : Nat) (k : Nat) (fB : Nat → Int64) (fN : Nat → Int64) (mv : Int64) (Pk : MV) (H : Heap) (locs : List Loc) (ls : Array Slot), 33 - k < n9_5 → (k ≤ 2 ^ (p0 + q0 + r0)) → (mpS p0 q0 r0 M Ms f k = some Pk) → (Hold fB 24 Pk) → (MSm Pk) → (Kp fA fB (fun k => k ≠ 24 ∧ k ≠ 25)) → va_P (dC, dI) vwCl [(o 6, .inl (dA 1, 32, .inr (.inl fN))), (o 0, .inr (2, mFs o th p0 q0 r0 mv zz)), (o 5, .inl (dA 1, 2640, .inr (.inl fB)))] H → va_D A [(o 6, .inl (dA 1, 32, .inr (.inl fN))), (o 0, .inr (2, mFs o th p0 q0 r0 mv zz)), (o 5, .inl (dA 1, 2640, .inr (.inl fB)))] → va_S A s.heap H locs → lv_has ls 5 [(0, .ref (o 0)), (1, .int (nI k1)), (2, .int (nI f)), (3, .int (nI 1)), (4, .int (nI k))] → W p l e ({ frames := 6, cells := 0, slots := 0, locals := 360 } : Room) s m args below meth c H locs 0 0 Q (F0 m 11 ls []) := by
    intro n9_5
    induction n9_5 with
    | zero => intro k fB fN mv Pk H locs ls hm_5; exact absurd hm_5 (Nat.not_lt_zero _)
    | succ n9_5 ih_5 =>
      intro k fB fN mv Pk H locs ls hm_5 hk9 hp9 hh9 sm9 kp9 hP hD hS hl
      refine lv_iload hx hb dX7_maps_11 (lv_at hl 4 rfl) ?_
      refine lv_aload_n hx hb dX7_maps_13 rfl (lv_at hl 0 rfl) ?_
      refine s_i (va_runV (As := []) (rest := [.int (nI k)]) ⟨hx, hb, hml, hown, hts⟩ (x7_full Z o th p0 q0 r0 mv zz (by omega)) (cwV 0 hts (lw_V q2147 q2149 qs43 q107 q2150) rfl rfl rfl (by decide +kernel) ⟨Nat.le_of_ble_eq_true rfl, Nat.le_of_ble_eq_true rfl⟩) (gP_V (va_recv hK hP (ci := 2) (q0 := 1) rfl rfl) hG hS (fun q _ h => h.elim) (hP.sub (ws' := [(o 0, .inr (2, mFs o th p0 q0 r0 mv zz))]) [1] rfl)) rfl rfl hl.1 rfl (lv_room (Nat.le_of_ble_eq_true rfl)) dX7_maps_14 ⟨by first | decide | omega, by first | decide | omega⟩) ?_
      refine lv_icmp_gt (tgt := 73) hx hb dX7_maps_17 (by decide) (fun c_17 => ?_) (fun c_17 => ?_)
      · have c_17 : (2 ^ (p0 + q0 + r0) - 1) < k := (nI_ltI (a := (2 ^ (p0 + q0 + r0) - 1)) (b := k) (by omega) (by omega)).mp c_17
        obtain rfl : k = 2 ^ (p0 + q0 + r0) := by omega
        refine lv_iload_n hx hb dX7_maps_73 rfl (lv_at hl 3 rfl) ?_
        subst hQe
        exact W.zret (v := nI 1) hx hb hr rfl (fun tz ht hW => ⟨⟨_, (fB, fN, mv), rfl, Or.inl ⟨Pk, hp9, rfl, hh9, kp9⟩, B1_at ht (hP.sub [1, 2, 0] rfl) (hD.sub [1, 2, 0] (by decide) rfl) trivial⟩, hS.F ht⟩) hS.2.2 dX7_maps_74
      · have c_17 : ¬ (2 ^ (p0 + q0 + r0) - 1) < k := fun h => c_17 ((nI_ltI (a := (2 ^ (p0 + q0 + r0) - 1)) (b := k) (by omega) (by omega)).mpr h)
        have hk8 : k < 32 := by omega
        refine lv_iload_n hx hb dX7_maps_20 rfl (lv_at hl 3 rfl) ?_
        refine lv_if_eq (tgt := 73) hx hb dX7_maps_21 (by decide) (fun c_21 => ?_) (fun c_21 => ?_)
        · exact absurd c_21 (by decide)
        refine lv_aload_n hx hb dX7_maps_24 rfl (lv_at hl 0 rfl) ?_
        refine lv_iload_n hx hb dX7_maps_25 rfl (lv_at hl 1 rfl) ?_
        refine lv_iload hx hb dX7_maps_26 (lv_at hl 4 rfl) ?_
        refine s_l (va_runV (As := [.int (nI k1), .int (nI k)]) (rest := []) ⟨hx, hb, hml, hown, hts⟩ (x7_of Z o th p0 q0 r0 mv zz fB k1 k (by omega)) (cwV 2 hts (lw_V q2119 q2121 qs38 q107 q2122) rfl rfl rfl (by decide +kernel) ⟨Nat.le_of_ble_eq_true rfl, Nat.le_of_ble_eq_true rfl⟩) (gP_V (va_recv hK hP (ci := 2) (q0 := 1) rfl rfl) hG hS (fun q _ h => h.elim) (hP.sub (ws' := [(o 0, .inr (2, mFs o th p0 q0 r0 mv zz)), (o 5, .inl (dA 1, 2640, .inr (.inl fB)))]) [1, 2] rfl)) rfl rfl hl.1 rfl (lv_room (Nat.le_of_ble_eq_true rfl)) dX7_maps_28 ⟨by first | decide | omega, by first | decide | omega⟩) ?_
        refine e_l (y := M (k + 1)) (hold_at (kp9.hold (k := k1) (by omega) hM) (i := k + 1) (by omega) (by omega)) ?_
        refine lv_lconst (v := 0) hx hb dX7_maps_31 rfl ?_
        refine W.lcmp hx hb dX7_maps_32 ?_
        refine lv_if_eq (tgt := 67) hx hb dX7_maps_33 (by decide) (fun c_33 => ?_) (fun c_33 => ?_)
        · have c_33 : (M (k + 1)) = 0 := (lg_cmp_eq _ _).mp c_33
          refine lv_iinc (v := nI (k + 1)) (lv' := [(4, .int (nI (k + 1))), (0, .ref (o 0)), (1, .int (nI k1)), (2, .int (nI f)), (3, .int (nI 1))]) hx hb dX7_maps_67 hl (k := 4) rfl (by exact nI_add _ 1) (by decide) rfl (fun ls hl => ?_)
          refine lv_goto (tgt := 11) hx hb dX7_maps_70 (by decide) ?_
          exact ih_5 (k + 1) fB fN mv Pk H locs ls (by omega) (by omega) (by show (match mpS p0 q0 r0 M Ms f k with | none => none | some S => if M (k + 1) = 0 then some S else match mtS p0 q0 r0 M k Ms f (p0 + q0 + r0) with | none => none | some T => addS (nI 1) S T) = _; rw [hp9]; exact if_pos c_33) hh9 sm9 (fun k9 hk9 i9 hi9 => by (try dsimp only [outH] at hk9); show fB (33 * k9 + i9) = fA (33 * k9 + i9); rw [kp9 k9 (by omega) i9 hi9]) (hP.sub [0, 1, 2] rfl) (hD.sub [0, 1, 2] (by decide) rfl) hS (lv_sub hl [1, 2, 3, 4, 0] rfl)
        · have c_33 : ¬ (M (k + 1)) = 0 := fun h => c_33 ((lg_cmp_eq _ _).mpr h)
          refine lv_aload_n hx hb dX7_maps_36 rfl (lv_at hl 0 rfl) ?_
          refine lv_iload_n hx hb dX7_maps_37 rfl (lv_at hl 1 rfl) ?_
          refine lv_iload hx hb dX7_maps_38 (lv_at hl 4 rfl) ?_
          refine lv_iload_n hx hb dX7_maps_40 rfl (lv_at hl 2 rfl) ?_
          have hF9 := va_free (wc := [(o 0, .inr (2, mFs o th p0 q0 r0 mv zz)), (o 5, .inl (dA 1, 2640, .inr (.inl fB))), (o 6, .inl (dA 1, 32, .inr (.inl fN)))]) hD hS (fun q h => hA q h) [1, 2, 0] rfl
          refine c_i (wr := []) (va_runV (As := [.int (nI k1), .int (nI k), .int (nI f)]) (rest := []) ⟨hx, hb, hml, hown, hts⟩ (x7_mapsTerm Z (va_A [(o 0, .inr (2, mFs o th p0 q0 r0 mv zz)), (o 5, .inl (dA 1, 2640, .inr (.inl fB))), (o 6, .inl (dA 1, 32, .inr (.inl fN)))] H.size) H.size (fun q h => Or.inr h) o th p0 q0 r0 mv zz fB fN Ms k1 k f M hn (fun k hk => kp9.hold (k := k) (by omega) (hR k hk)) sR (by omega) (by omega) (by omega) (by omega) (kp9.hold (k := k1) (by omega) hM) sM) (cwV 3 hts (lw_V q2360 q2362 qs69 q107 q2363) rfl rfl rfl (by decide +kernel) ⟨Nat.le_of_ble_eq_true rfl, Nat.le_of_ble_eq_true rfl⟩) (gP_V (va_recv hK hP (ci := 2) (q0 := 1) rfl rfl) hG hS (fun q _ h => hF9 q h) ⟨rfl, (hP.sub (ws' := [(o 0, .inr (2, mFs o th p0 q0 r0 mv zz)), (o 5, .inl (dA 1, 2640, .inr (.inl fB))), (o 6, .inl (dA 1, 32, .inr (.inl fN)))]) [1, 2, 0] rfl), (hD.sub (ws' := [(o 0, .inr (2, mFs o th p0 q0 r0 mv zz)), (o 5, .inl (dA 1, 2640, .inr (.inl fB))), (o 6, .inl (dA 1, 32, .inr (.inl fN)))]) [1, 2, 0] (by decide) rfl).self⟩) rfl rfl hl.1 rfl (lv_room (Nat.le_of_ble_eq_true rfl)) dX7_maps_41 ⟨by first | decide | omega, by first | decide | omega⟩) hP hD hS hA [1, 2, 0] [] rfl rfl (by decide) (by decide) (fun r9 u9 H locs hq hX hz hk hP hD hS => ?_)
          obtain ⟨fA_6, fM_7, mu_8⟩ := u9
          obtain ⟨r_9, rfl⟩ : ∃ z, z = r9 := ⟨_, rfl⟩
          have hq_10 := hq
          try dsimp only at hq_10
          have hP : va_P (dC, dI) vwCl [(o 0, .inr (2, mFs o th p0 q0 r0 mu_8 zz)), (o 5, .inl (dA 1, 2640, .inr (.inl fA_6))), (o 6, .inl (dA 1, 32, .inr (.inl fM_7)))] H := hP
          have hD : va_D A [(o 0, .inr (2, mFs o th p0 q0 r0 mu_8 zz)), (o 5, .inl (dA 1, 2640, .inr (.inl fA_6))), (o 6, .inl (dA 1, 32, .inr (.inl fM_7)))] := hD
          rcases hq_10 with ⟨P_11, e_11, rfl, hH_11, hS_11⟩ | ⟨e_11, rfl, hE_11⟩
          · have sm_12 : MSm P_11 := mtS_sm sM (by omega) sR _ hf _ e_11
            have hh_13 := hS_11.hold (k := 24) (by omega) hh9
            have hh_14 := hS_11.hold (k := k1) (by omega) (kp9.hold (k := k1) (by omega) hM)
            refine lv_if_eq (tgt := 65) hx hb dX7_maps_44 (by decide) (fun c_44 => ?_) (fun c_44 => ?_)
            · exact absurd c_44 (by decide)
            refine lv_aload_n hx hb dX7_maps_47 rfl (lv_at hl 0 rfl) ?_
            refine lv_bipush (v := nI 24) hx hb dX7_maps_48 (by decide) ?_
            refine lv_bipush (v := nI 25) hx hb dX7_maps_50 (by decide) ?_
            refine lv_iconst (v := nI 1) hx hb dX7_maps_52 (by decide) ?_
            refine lv_bipush (v := nI 24) hx hb dX7_maps_53 (by decide) ?_
            have hF9 := va_free (wc := [(o 0, .inr (2, mFs o th p0 q0 r0 mu_8 zz)), (o 5, .inl (dA 1, 2640, .inr (.inl fA_6))), (o 6, .inl (dA 1, 32, .inr (.inl fM_7)))]) hD hS (fun q h => hA q h) [0, 1, 2] rfl
            refine c_i (wr := []) (va_runV (As := [.int (nI 24), .int (nI 25), .int (nI 1), .int (nI 24)]) (rest := []) ⟨hx, hb, hml, hown, hts⟩ (x7_adds Z (va_A [(o 0, .inr (2, mFs o th p0 q0 r0 mu_8 zz)), (o 5, .inl (dA 1, 2640, .inr (.inl fA_6))), (o 6, .inl (dA 1, 32, .inr (.inl fM_7)))] H.size) H.size (fun q h => Or.inr h) o th p0 q0 r0 mu_8 zz fA_6 fM_7 24 25 24 (nI 1) Pk P_11 (Or.inl rfl) (by omega) (by omega) (by omega) hh_13 hH_11 sm9 sm_12) (cwV 4 hts (lw_V q2111 q2113 qs36 q107 q2114) rfl rfl rfl (by decide +kernel) ⟨Nat.le_of_ble_eq_true rfl, Nat.le_of_ble_eq_true rfl⟩) (gP_V (va_recv hK hP (ci := 2) (q0 := 0) rfl rfl) hG hS (fun q _ h => hF9 q h) ⟨rfl, (hP.sub (ws' := [(o 0, .inr (2, mFs o th p0 q0 r0 mu_8 zz)), (o 5, .inl (dA 1, 2640, .inr (.inl fA_6))), (o 6, .inl (dA 1, 32, .inr (.inl fM_7)))]) [0, 1, 2] rfl), (hD.sub (ws' := [(o 0, .inr (2, mFs o th p0 q0 r0 mu_8 zz)), (o 5, .inl (dA 1, 2640, .inr (.inl fA_6))), (o 6, .inl (dA 1, 32, .inr (.inl fM_7)))]) [0, 1, 2] (by decide) rfl).self⟩) rfl rfl hl.1 rfl (lv_room (Nat.le_of_ble_eq_true rfl)) dX7_maps_55 ⟨by first | decide | omega, by first | decide | omega⟩) hP hD hS hA [0, 1, 2] [] rfl rfl (by decide) (by decide) (fun r9 u9 H locs hq hX hz hk hP hD hS => ?_)
            obtain ⟨fA_15, fM_16, mu_17⟩ := u9
            obtain ⟨r_18, rfl⟩ : ∃ z, z = r9 := ⟨_, rfl⟩
            have hq_19 := hq
            try dsimp only at hq_19
            have hP : va_P (dC, dI) vwCl [(o 0, .inr (2, mFs o th p0 q0 r0 mu_17 zz)), (o 5, .inl (dA 1, 2640, .inr (.inl fA_15))), (o 6, .inl (dA 1, 32, .inr (.inl fM_16)))] H := hP
            have hD : va_D A [(o 0, .inr (2, mFs o th p0 q0 r0 mu_17 zz)), (o 5, .inl (dA 1, 2640, .inr (.inl fA_15))), (o 6, .inl (dA 1, 32, .inr (.inl fM_16)))] := hD
            rcases hq_19.cases with ⟨P_20, e_20, rfl, hH_20, hS_20⟩ | ⟨e_20, rfl, hE_20⟩
            · have sm_21 : MSm P_20 := addS_sm sm9 sm_12 e_20
              have hh_22 := hS_20.hold (j := k1) (by omega) hh_14
              have hh_23 := hS_20.hold (j := 25) (by omega) hH_11
              refine lv_if_eq (tgt := 65) hx hb dX7_maps_58 (by decide) (fun c_58 => ?_) (fun c_58 => ?_)
              · exact absurd c_58 (by decide)
              refine lv_iconst (v := nI 1) hx hb dX7_maps_61 (by decide) ?_
              refine lv_goto (tgt := 66) hx hb dX7_maps_62 (by decide) ?_
              refine lv_istore_n (lv' := [(3, .int (nI 1)), (0, .ref (o 0)), (1, .int (nI k1)), (2, .int (nI f)), (4, .int (nI k))]) hx hb dX7_maps_66 rfl hl (by decide) rfl (fun ls hl => ?_)
              refine lv_iinc (v := nI (k + 1)) (lv' := [(4, .int (nI (k + 1))), (3, .int (nI 1)), (0, .ref (o 0)), (1, .int (nI k1)), (2, .int (nI f))]) hx hb dX7_maps_67 hl (k := 4) rfl (by exact nI_add _ 1) (by decide) rfl (fun ls hl => ?_)
              refine lv_goto (tgt := 11) hx hb dX7_maps_70 (by decide) ?_
              exact ih_5 (k + 1) fA_15 fM_16 mu_17 P_20 H locs ls (by omega) (by omega) (by show (match mpS p0 q0 r0 M Ms f k with | none => none | some S => if M (k + 1) = 0 then some S else match mtS p0 q0 r0 M k Ms f (p0 + q0 + r0) with | none => none | some T => addS (nI 1) S T) = _; rw [hp9]; refine (if_neg c_33).trans ?_; rw [e_11]; exact e_20) hH_20 sm_21 (fun k9 hk9 i9 hi9 => by (try dsimp only [outH] at hk9); show fA_15 (33 * k9 + i9) = fA (33 * k9 + i9); rw [hS_20 _ (by omega), hS_11 k9 (by omega) i9 hi9, kp9 k9 (by omega) i9 hi9]) (hP.sub [2, 0, 1] rfl) (hD.sub [2, 0, 1] (by decide) rfl) hS (lv_sub hl [2, 3, 4, 1, 0] rfl)
            · have hh_24 : Hold fA_15 24 Pk := by rw [hE_20]; exact hh_13
              have hh_25 : Hold fA_15 k1 M := by rw [hE_20]; exact hh_14
              have hh_26 : Hold fA_15 25 P_11 := by rw [hE_20]; exact hH_11
              refine lv_if_eq (tgt := 65) hx hb dX7_maps_58 (by decide) (fun c_58 => ?_) (fun c_58 => ?_)
              rotate_left
              · exact absurd (by decide) c_58
              refine lv_iconst (v := nI 0) hx hb dX7_maps_65 (by decide) ?_
              refine lv_istore_n (lv' := [(3, .int (nI 0)), (0, .ref (o 0)), (1, .int (nI k1)), (2, .int (nI f)), (4, .int (nI k))]) hx hb dX7_maps_66 rfl hl (by decide) rfl (fun ls hl => ?_)
              refine lv_iinc (v := nI (k + 1)) (lv' := [(4, .int (nI (k + 1))), (3, .int (nI 0)), (0, .ref (o 0)), (1, .int (nI k1)), (2, .int (nI f))]) hx hb dX7_maps_67 hl (k := 4) rfl (by exact nI_add _ 1) (by decide) rfl (fun ls hl => ?_)
              refine lv_goto (tgt := 11) hx hb dX7_maps_70 (by decide) ?_
              refine lv_iload hx hb dX7_maps_11 (lv_at hl 0 rfl) ?_
              refine lv_aload_n hx hb dX7_maps_13 rfl (lv_at hl 2 rfl) ?_
              refine s_i (va_runV (As := []) (rest := [.int (nI (k + 1))]) ⟨hx, hb, hml, hown, hts⟩ (x7_full Z o th p0 q0 r0 mu_17 zz (by omega)) (cwV 0 hts (lw_V q2147 q2149 qs43 q107 q2150) rfl rfl rfl (by decide +kernel) ⟨Nat.le_of_ble_eq_true rfl, Nat.le_of_ble_eq_true rfl⟩) (gP_V (va_recv hK hP (ci := 2) (q0 := 0) rfl rfl) hG hS (fun q _ h => h.elim) (hP.sub (ws' := [(o 0, .inr (2, mFs o th p0 q0 r0 mu_17 zz))]) [0] rfl)) rfl rfl hl.1 rfl (lv_room (Nat.le_of_ble_eq_true rfl)) dX7_maps_14 ⟨by first | decide | omega, by first | decide | omega⟩) ?_
              refine lv_icmp_gt (tgt := 73) hx hb dX7_maps_17 (by decide) (fun c_17 => ?_) (fun c_17 => ?_)
              · have c_17 : (2 ^ (p0 + q0 + r0) - 1) < (k + 1) := (nI_ltI (a := (2 ^ (p0 + q0 + r0) - 1)) (b := (k + 1)) (by omega) (by omega)).mp c_17
                refine lv_iload_n hx hb dX7_maps_73 rfl (lv_at hl 1 rfl) ?_
                subst hQe
                exact W.zret (v := nI 0) hx hb hr rfl (fun tz ht hW => ⟨⟨_, (fA_15, fM_16, mu_17), rfl, Or.inr ⟨mpS_none (m := 2 ^ (p0 + q0 + r0)) (show mpS p0 q0 r0 M Ms f (k + 1) = none from by show (match mpS p0 q0 r0 M Ms f k with | none => none | some S => if M (k + 1) = 0 then some S else match mtS p0 q0 r0 M k Ms f (p0 + q0 + r0) with | none => none | some T => addS (nI 1) S T) = _; rw [hp9]; refine (if_neg c_33).trans ?_; rw [e_11]; exact e_20) (by omega), rfl, (fun k9 hk9 i9 hi9 => by (try dsimp only [outH] at hk9); show fA_15 (33 * k9 + i9) = fA (33 * k9 + i9); rw [hE_20, hS_11 k9 (by omega) i9 hi9, kp9 k9 (by omega) i9 hi9])⟩, B1_at ht (hP.sub [0, 1, 2] rfl) (hD.sub [0, 1, 2] (by decide) rfl) trivial⟩, hS.F ht⟩) hS.2.2 dX7_maps_74
              · have c_17 : ¬ (2 ^ (p0 + q0 + r0) - 1) < (k + 1) := fun h => c_17 ((nI_ltI (a := (2 ^ (p0 + q0 + r0) - 1)) (b := (k + 1)) (by omega) (by omega)).mpr h)
                refine lv_iload_n hx hb dX7_maps_20 rfl (lv_at hl 1 rfl) ?_
                refine lv_if_eq (tgt := 73) hx hb dX7_maps_21 (by decide) (fun c_21 => ?_) (fun c_21 => ?_)
                rotate_left
                · exact absurd (by decide) c_21
                refine lv_iload_n hx hb dX7_maps_73 rfl (lv_at hl 1 rfl) ?_
                subst hQe
                exact W.zret (v := nI 0) hx hb hr rfl (fun tz ht hW => ⟨⟨_, (fA_15, fM_16, mu_17), rfl, Or.inr ⟨mpS_none (m := 2 ^ (p0 + q0 + r0)) (show mpS p0 q0 r0 M Ms f (k + 1) = none from by show (match mpS p0 q0 r0 M Ms f k with | none => none | some S => if M (k + 1) = 0 then some S else match mtS p0 q0 r0 M k Ms f (p0 + q0 + r0) with | none => none | some T => addS (nI 1) S T) = _; rw [hp9]; refine (if_neg c_33).trans ?_; rw [e_11]; exact e_20) (by omega), rfl, (fun k9 hk9 i9 hi9 => by (try dsimp only [outH] at hk9); show fA_15 (33 * k9 + i9) = fA (33 * k9 + i9); rw [hE_20, hS_11 k9 (by omega) i9 hi9, kp9 k9 (by omega) i9 hi9])⟩, B1_at ht (hP.sub [0, 1, 2] rfl) (hD.sub [0, 1, 2] (by decide) rfl) trivial⟩, hS.F ht⟩) hS.2.2 dX7_maps_74
          · have hh_27 := hE_11.hold (k := 24) (by omega) hh9
            have hh_28 := hE_11.hold (k := k1) (by omega) (kp9.hold (k := k1) (by omega) hM)
            refine lv_if_eq (tgt := 65) hx hb dX7_maps_44 (by decide) (fun c_44 => ?_) (fun c_44 => ?_)
            rotate_left
            · exact absurd (by decide) c_44
            refine lv_iconst (v := nI 0) hx hb dX7_maps_65 (by decide) ?_
            refine lv_istore_n (lv' := [(3, .int (nI 0)), (0, .ref (o 0)), (1, .int (nI k1)), (2, .int (nI f)), (4, .int (nI k))]) hx hb dX7_maps_66 rfl hl (by decide) rfl (fun ls hl => ?_)
            refine lv_iinc (v := nI (k + 1)) (lv' := [(4, .int (nI (k + 1))), (3, .int (nI 0)), (0, .ref (o 0)), (1, .int (nI k1)), (2, .int (nI f))]) hx hb dX7_maps_67 hl (k := 4) rfl (by exact nI_add _ 1) (by decide) rfl (fun ls hl => ?_)
            refine lv_goto (tgt := 11) hx hb dX7_maps_70 (by decide) ?_
            refine lv_iload hx hb dX7_maps_11 (lv_at hl 0 rfl) ?_
            refine lv_aload_n hx hb dX7_maps_13 rfl (lv_at hl 2 rfl) ?_
            refine s_i (va_runV (As := []) (rest := [.int (nI (k + 1))]) ⟨hx, hb, hml, hown, hts⟩ (x7_full Z o th p0 q0 r0 mu_8 zz (by omega)) (cwV 0 hts (lw_V q2147 q2149 qs43 q107 q2150) rfl rfl rfl (by decide +kernel) ⟨Nat.le_of_ble_eq_true rfl, Nat.le_of_ble_eq_true rfl⟩) (gP_V (va_recv hK hP (ci := 2) (q0 := 0) rfl rfl) hG hS (fun q _ h => h.elim) (hP.sub (ws' := [(o 0, .inr (2, mFs o th p0 q0 r0 mu_8 zz))]) [0] rfl)) rfl rfl hl.1 rfl (lv_room (Nat.le_of_ble_eq_true rfl)) dX7_maps_14 ⟨by first | decide | omega, by first | decide | omega⟩) ?_
            refine lv_icmp_gt (tgt := 73) hx hb dX7_maps_17 (by decide) (fun c_17 => ?_) (fun c_17 => ?_)
            · have c_17 : (2 ^ (p0 + q0 + r0) - 1) < (k + 1) := (nI_ltI (a := (2 ^ (p0 + q0 + r0) - 1)) (b := (k + 1)) (by omega) (by omega)).mp c_17
              refine lv_iload_n hx hb dX7_maps_73 rfl (lv_at hl 1 rfl) ?_
              subst hQe
              exact W.zret (v := nI 0) hx hb hr rfl (fun tz ht hW => ⟨⟨_, (fA_6, fM_7, mu_8), rfl, Or.inr ⟨mpS_none (m := 2 ^ (p0 + q0 + r0)) (show mpS p0 q0 r0 M Ms f (k + 1) = none from by show (match mpS p0 q0 r0 M Ms f k with | none => none | some S => if M (k + 1) = 0 then some S else match mtS p0 q0 r0 M k Ms f (p0 + q0 + r0) with | none => none | some T => addS (nI 1) S T) = _; rw [hp9]; refine (if_neg c_33).trans ?_; rw [e_11]) (by omega), rfl, (fun k9 hk9 i9 hi9 => by (try dsimp only [outH] at hk9); show fA_6 (33 * k9 + i9) = fA (33 * k9 + i9); rw [hE_11 k9 (by omega) i9 hi9, kp9 k9 (by omega) i9 hi9])⟩, B1_at ht (hP.sub [0, 1, 2] rfl) (hD.sub [0, 1, 2] (by decide) rfl) trivial⟩, hS.F ht⟩) hS.2.2 dX7_maps_74
            · have c_17 : ¬ (2 ^ (p0 + q0 + r0) - 1) < (k + 1) := fun h => c_17 ((nI_ltI (a := (2 ^ (p0 + q0 + r0) - 1)) (b := (k + 1)) (by omega) (by omega)).mpr h)
              refine lv_iload_n hx hb dX7_maps_20 rfl (lv_at hl 1 rfl) ?_
              refine lv_if_eq (tgt := 73) hx hb dX7_maps_21 (by decide) (fun c_21 => ?_) (fun c_21 => ?_)
              rotate_left
              · exact absurd (by decide) c_21
              refine lv_iload_n hx hb dX7_maps_73 rfl (lv_at hl 1 rfl) ?_
              subst hQe
              exact W.zret (v := nI 0) hx hb hr rfl (fun tz ht hW => ⟨⟨_, (fA_6, fM_7, mu_8), rfl, Or.inr ⟨mpS_none (m := 2 ^ (p0 + q0 + r0)) (show mpS p0 q0 r0 M Ms f (k + 1) = none from by show (match mpS p0 q0 r0 M Ms f k with | none => none | some S => if M (k + 1) = 0 then some S else match mtS p0 q0 r0 M k Ms f (p0 + q0 + r0) with | none => none | some T => addS (nI 1) S T) = _; rw [hp9]; refine (if_neg c_33).trans ?_; rw [e_11]) (by omega), rfl, (fun k9 hk9 i9 hi9 => by (try dsimp only [outH] at hk9); show fA_6 (33 * k9 + i9) = fA (33 * k9 + i9); rw [hE_11 k9 (by omega) i9 hi9, kp9 k9 (by omega) i9 hi9])⟩, B1_at ht (hP.sub [0, 1, 2] rfl) (hD.sub [0, 1, 2] (by decide) rfl) trivial⟩, hS.F ht⟩) hS.2.2 dX7_maps_74
  exact loop_5 _ 0 fA_1 fM mu (numM 0) H locs ls (Nat.lt_succ_self _) (by omega) rfl hH_k_3 (numM_sm (by unfold sm8; decide)) (fun k9 hk9 i9 hi9 => by (try dsimp only [outH] at hk9); show fA_1 (33 * k9 + i9) = fA (33 * k9 + i9); rw [hS_k_3 _ (by omega)]) hP hD hS (lv_sub hl [2, 3, 4, 1, 0] rfl)
set_option maxHeartbeats 4000000 in
theorem x7_map {l : Launch} {dC : Nat → ClassId} {dI : Nat → Nat → Nat} {dA : Nat → ClassId} {s0 : State} {b0 : Addr} (Z : Z0 l dC dI dA s0 b0) (A : Nat → Prop) (sz : Nat) (hA : ∀ q : Nat, sz ≤ q → A q) (o : Nat → Nat) (th : Int32) (p0 q0 r0 : Nat) (mu : Int64) (zz : Nat → Int32) (fA fM : Nat → Int64) (Ms : Nat → MV) (t : Int32) (a : Int32) (f : Int32) (hn : p0 + q0 + r0 ≤ 5) (hR : ∀ k, k < 8 → Hold fA k (Ms k)) (sR : ∀ k, k < 8 → MSm (Ms k)) : Met l yX7_map (ws_ yX7_map cX7_map 5 (some .int)) ({ frames := 7, cells := 0, slots := 0, locals := 420 } : Room) (gP [.ref (o 0), .int t, .int a, .int f] s0 A (fun H => H.size = sz ∧ va_P (dC, dI) vwCl [(o 0, .inr (2, mFs o th p0 q0 r0 mu zz)), (o 5, .inl (dA 1, 2640, .inr (.inl fA))), (o 6, .inl (dA 1, 32, .inr (.inl fM)))] H ∧ va_D A [(o 0, .inr (2, mFs o th p0 q0 r0 mu zz)), (o 5, .inl (dA 1, 2640, .inr (.inl fA))), (o 6, .inl (dA 1, 32, .inr (.inl fM)))])) (va_Qi (S := (Nat → Int64) × (Nat → Int64) × Int64 × Int32) (fun r u => ModPost fA (rg t) (mapX p0 q0 r0 Ms t a f) u.2.2.2 r u.1) (B1 (dC, dI) A (fun u => mC dA o u.2.2.2 p0 q0 r0 u.2.2.1 zz u.1 u.2.1) (fun _ _ => True)) A) 0 0 A := by
  refine Met.ofW (cc := cX7_map) (maxL := 5) (ret := (some .int)) (by decide) rfl ?_
  intro p e s m args below meth c s₁ B hml hv
  obtain ⟨hav, hG, hsz, hP, hD⟩ := hv
  have hx := B.exec
  have hb := B.bytes
  have hr := B.returns
  have hts := atoms_spec (ws := (ws_ yX7_map cX7_map 5 (some .int))) B.pre
  have hts : ∀ w ∈ lw_all, w.before _ s = true := fun w h => hts w (List.mem_cons_of_mem _ h)
  have hown : s.vm.findClass RX7 = some m.cls := findClass_of_methodNamed B.named
  have hlocks := B.notSynchronized
  have hK := hG.K Z
  subst hsz
  have hS : va_S A s.heap s.heap [] := va_S.rf
  have hl := lv_entry ([.ref (o 0), .int t, .int a, .int f]) (n := 5) (Nat.le_of_ble_eq_true rfl)
  rw [show entryFrame m args 5 = entryFrame m ([.ref (o 0), .int t, .int a, .int f] : List Value).toArray 5 from by rw [hav], lg_entry_eq]
  generalize (lg_sl ([.ref (o 0), .int t, .int a, .int f]) ++ List.replicate (5 - (lg_sl ([.ref (o 0), .int t, .int a, .int f])).length) Slot.unset).toArray = ls at hl ⊢
  have hl : lv_has ls 5 [(0, .ref (o 0)), (1, .int t), (2, .int a), (3, .int f)] := hl
  generalize hQe : MQ below _ _ s _ _ _ = Q
  change W p l e ({ frames := 7, cells := 0, slots := 0, locals := 420 } : Room) s m args below meth c s.heap [] 0 0 Q (F0 m 0 ls [])
  refine lv_aload_n hx hb dX7_map_0 rfl (lv_at hl 0 rfl) ?_
  have J_1 : ∀  (H : Heap) (locs : List Loc) (ls : Array Slot), va_P (dC, dI) vwCl [(o 0, .inr (2, mFs o th p0 q0 r0 mu zz)), (o 5, .inl (dA 1, 2640, .inr (.inl fA))), (o 6, .inl (dA 1, 32, .inr (.inl fM)))] H → va_D A [(o 0, .inr (2, mFs o th p0 q0 r0 mu zz)), (o 5, .inl (dA 1, 2640, .inr (.inl fA))), (o 6, .inl (dA 1, 32, .inr (.inl fM)))] → va_S A s.heap H locs → lv_has ls 5 [(0, .ref (o 0)), (1, .int t), (2, .int a), (3, .int f)] → W p l e ({ frames := 7, cells := 0, slots := 0, locals := 420 } : Room) s m args below meth c H locs 0 0 Q (F0 m 20 ls [.int (bI (rgB t && rgB a)), .ref (o 0)]) := by
    intro  H locs ls  hP hD hS hl
    refine lv_iload_n hx hb dX7_map_20 rfl (lv_at hl 3 rfl) ?_
    refine s_i (va_runV (As := [.int (bI (rgB t && rgB a)), .int f]) (rest := []) ⟨hx, hb, hml, hown, hts⟩ (x7_wrongMap Z o th p0 q0 r0 mu zz fA Ms (rgB t && rgB a) f hn hR) (cwV 2 hts (lw_V q2352 q2354 qs67 q107 q2355) rfl rfl rfl (by decide +kernel) ⟨Nat.le_of_ble_eq_true rfl, Nat.le_of_ble_eq_true rfl⟩) (gP_V (va_recv hK hP (ci := 2) (q0 := 0) rfl rfl) hG hS (fun q _ h => h.elim) (hP.sub (ws' := [(o 0, .inr (2, mFs o th p0 q0 r0 mu zz)), (o 5, .inl (dA 1, 2640, .inr (.inl fA)))]) [0, 1] rfl)) rfl rfl hl.1 rfl (lv_room (Nat.le_of_ble_eq_true rfl)) dX7_map_21 ⟨by first | decide | omega, by first | decide | omega⟩) ?_
    refine lv_istore (lv' := [(4, .int (wmX (p0 + q0 + r0) Ms (rgB t && rgB a) f)), (0, .ref (o 0)), (1, .int t), (2, .int a), (3, .int f)]) hx hb dX7_map_24 hl (by decide) rfl (fun ls hl => ?_)
    refine lv_iload hx hb dX7_map_26 (lv_at hl 0 rfl) ?_
    refine lv_if_le (tgt := 38) hx hb dX7_map_28 (by decide) (fun c_28 => ?_) (fun c_28 => ?_)
    · have h_w := wm_0 c_28
      obtain ⟨h_ab, h_f, -⟩ := wm_ok h_w
      obtain ⟨jf, hj_f, rfl⟩ := inB_nat (by omega) h_f
      rw [Bool.and_eq_true] at h_ab
      obtain ⟨jt, hj_t, rfl⟩ := inB_nat (by decide) h_ab.1
      obtain ⟨ja, hj_a, rfl⟩ := inB_nat (by decide) h_ab.2
      refine lv_aload_n hx hb dX7_map_38 rfl (lv_at hl 1 rfl) ?_
      refine lv_iload_n hx hb dX7_map_39 rfl (lv_at hl 3 rfl) ?_
      refine lv_iload_n hx hb dX7_map_40 rfl (lv_at hl 4 rfl) ?_
      have hF9 := va_free (wc := [(o 0, .inr (2, mFs o th p0 q0 r0 mu zz)), (o 5, .inl (dA 1, 2640, .inr (.inl fA))), (o 6, .inl (dA 1, 32, .inr (.inl fM)))]) hD hS (fun q h => hA q h) [0, 1, 2] rfl
      refine c_i (wr := []) (va_runV (As := [.int (nI ja), .int (nI jf)]) (rest := []) ⟨hx, hb, hml, hown, hts⟩ (x7_maps Z (va_A [(o 0, .inr (2, mFs o th p0 q0 r0 mu zz)), (o 5, .inl (dA 1, 2640, .inr (.inl fA))), (o 6, .inl (dA 1, 32, .inr (.inl fM)))] H.size) H.size (fun q h => Or.inr h) o th p0 q0 r0 mu zz fA fM Ms ja jf (Ms ja) hn hR sR (by omega) (by omega) (by omega) (hR ja (by omega)) (sR ja (by omega))) (cwV 2 hts (lw_V q2356 q2358 qs68 q107 q2359) rfl rfl rfl (by decide +kernel) ⟨Nat.le_of_ble_eq_true rfl, Nat.le_of_ble_eq_true rfl⟩) (gP_V (va_recv hK hP (ci := 2) (q0 := 0) rfl rfl) hG hS (fun q _ h => hF9 q h) ⟨rfl, (hP.sub (ws' := [(o 0, .inr (2, mFs o th p0 q0 r0 mu zz)), (o 5, .inl (dA 1, 2640, .inr (.inl fA))), (o 6, .inl (dA 1, 32, .inr (.inl fM)))]) [0, 1, 2] rfl), (hD.sub (ws' := [(o 0, .inr (2, mFs o th p0 q0 r0 mu zz)), (o 5, .inl (dA 1, 2640, .inr (.inl fA))), (o 6, .inl (dA 1, 32, .inr (.inl fM)))]) [0, 1, 2] (by decide) rfl).self⟩) rfl rfl hl.1 rfl (lv_room (Nat.le_of_ble_eq_true rfl)) dX7_map_41 ⟨by first | decide | omega, by first | decide | omega⟩) hP hD hS hA [0, 1, 2] [] rfl rfl (by decide) (by decide) (fun r9 u9 H locs hq hX hz hk hP hD hS => ?_)
      obtain ⟨fA_2, fM_3, mu_4⟩ := u9
      obtain ⟨r_5, rfl⟩ : ∃ z, z = r9 := ⟨_, rfl⟩
      have hq_6 := hq
      try dsimp only at hq_6
      have hP : va_P (dC, dI) vwCl [(o 0, .inr (2, mFs o th p0 q0 r0 mu_4 zz)), (o 5, .inl (dA 1, 2640, .inr (.inl fA_2))), (o 6, .inl (dA 1, 32, .inr (.inl fM_3)))] H := hP
      have hD : va_D A [(o 0, .inr (2, mFs o th p0 q0 r0 mu_4 zz)), (o 5, .inl (dA 1, 2640, .inr (.inl fA_2))), (o 6, .inl (dA 1, 32, .inr (.inl fM_3)))] := hD
      rcases hq_6 with ⟨P_7, e_7, rfl, hH_7, hS_7⟩ | ⟨e_7, rfl, hE_7⟩
      · have sm_8 : MSm P_7 := mpS_sm (sR ja (by omega)) sR (by omega) _ (pow5 hn).1 _ e_7
        have hh_9 := hS_7.hold (k := ja) (by omega) (hR ja (by omega))
        refine lv_if_eq (tgt := 57) hx hb dX7_map_44 (by decide) (fun c_44 => ?_) (fun c_44 => ?_)
        · exact absurd c_44 (by decide)
        refine lv_aload_n hx hb dX7_map_47 rfl (lv_at hl 1 rfl) ?_
        refine lv_bipush (v := nI 24) hx hb dX7_map_48 (by decide) ?_
        refine lv_iload_n hx hb dX7_map_50 rfl (lv_at hl 2 rfl) ?_
        have hF9 := va_free (wc := [(o 0, .inr (2, mFs o th p0 q0 r0 mu_4 zz)), (o 5, .inl (dA 1, 2640, .inr (.inl fA_2)))]) hD hS (fun q h => hA q h) [0, 1] rfl
        refine c_i (wr := [(o 6, .inl (dA 1, 32, .inr (.inl fM_3)))]) (va_runV (As := [.int (nI 24), .int (nI jt)]) (rest := []) ⟨hx, hb, hml, hown, hts⟩ (x7_gives Z (va_A [(o 0, .inr (2, mFs o th p0 q0 r0 mu_4 zz)), (o 5, .inl (dA 1, 2640, .inr (.inl fA_2)))] H.size) H.size (fun q h => Or.inr h) o th p0 q0 r0 mu_4 zz fA_2 fM_3 24 jt (by omega) (by omega)) (cwV 2 hts (lw_V q2181 q2183 qs48 q107 q2184) rfl rfl rfl (by decide +kernel) ⟨Nat.le_of_ble_eq_true rfl, Nat.le_of_ble_eq_true rfl⟩) (gP_V (va_recv hK hP (ci := 2) (q0 := 0) rfl rfl) hG hS (fun q _ h => hF9 q h) ⟨rfl, (hP.sub (ws' := [(o 0, .inr (2, mFs o th p0 q0 r0 mu_4 zz)), (o 5, .inl (dA 1, 2640, .inr (.inl fA_2)))]) [0, 1] rfl), (hD.sub (ws' := [(o 0, .inr (2, mFs o th p0 q0 r0 mu_4 zz)), (o 5, .inl (dA 1, 2640, .inr (.inl fA_2)))]) [0, 1] (by decide) rfl).self⟩) rfl rfl hl.1 rfl (lv_room (Nat.le_of_ble_eq_true rfl)) dX7_map_51 ⟨by first | decide | omega, by first | decide | omega⟩) hP hD hS hA [0, 1] [2] rfl rfl (by decide) (by decide) (fun r9 u9 H locs hq hX hz hk hP hD hS => ?_)
        obtain ⟨r_10, rfl⟩ : ∃ z, z = r9 := ⟨_, rfl⟩
        obtain rfl := hq
        have hP : va_P (dC, dI) vwCl [(o 6, .inl (dA 1, 32, .inr (.inl fM_3))), (o 0, .inr (2, mFs o (nI 0) p0 q0 r0 mu_4 zz)), (o 5, .inl (dA 1, 2640, .inr (.inl (cpS fA_2 24 jt))))] H := hP
        have hD : va_D A [(o 6, .inl (dA 1, 32, .inr (.inl fM_3))), (o 0, .inr (2, mFs o (nI 0) p0 q0 r0 mu_4 zz)), (o 5, .inl (dA 1, 2640, .inr (.inl (cpS fA_2 24 jt))))] := hD
        have hc_12 := cpS_hold (t := jt) hH_7
        have hs_13 := cpS_same (fA := fA_2) (k := 24) (t := jt)
        generalize cpS fA_2 24 jt = fA_11 at hP hD hc_12 hs_13 ⊢
        have hh_14 := hs_13.hold (j := 24) (by omega) hH_7
        refine lv_goto (tgt := 62) hx hb dX7_map_54 (by decide) ?_
        subst hQe
        exact W.iret (v := nI (cntN (fun j => fA_11 (33 * jt + 1 + j)) 32)) hx hb hr (fun tz ht hW => ⟨⟨_, (fA_11, fM_3, mu_4, nI 0), rfl, (by rw [rg_n (show jt < 8 by omega)]; exact ModPost.mk1 (P := P_7) (by unfold mapX; rw [if_neg (fun h => h h_w), rg_n (show ja < 8 by omega), nI_clamp (show jf < 2 ^ 31 by omega), e_7]; rfl) hc_12 (fun k9 hk9 i9 hi9 => by (try dsimp only [outH] at hk9); show fA_11 (33 * k9 + i9) = fA (33 * k9 + i9); rw [hs_13 _ (by omega), hS_7 k9 (by omega) i9 hi9])), B1_at ht (hP.sub [1, 2, 0] rfl) (hD.sub [1, 2, 0] (by decide) rfl) trivial⟩, hS.F ht⟩) hS.2.2 dX7_map_62
      · have hh_15 := hE_7.hold (k := ja) (by omega) (hR ja (by omega))
        refine lv_if_eq (tgt := 57) hx hb dX7_map_44 (by decide) (fun c_44 => ?_) (fun c_44 => ?_)
        rotate_left
        · exact absurd (by decide) c_44
        refine lv_aload_n hx hb dX7_map_57 rfl (lv_at hl 1 rfl) ?_
        refine lv_iconst (v := nI 3) hx hb dX7_map_58 (by decide) ?_
        have hF9 := va_free (wc := [(o 0, .inr (2, mFs o th p0 q0 r0 mu_4 zz))]) hD hS (fun q h => hA q h) [0] rfl
        refine c_i (wr := [(o 5, .inl (dA 1, 2640, .inr (.inl fA_2))), (o 6, .inl (dA 1, 32, .inr (.inl fM_3)))]) (va_runV (As := [.int (nI 3)]) (rest := []) ⟨hx, hb, hml, hown, hts⟩ (x7_refuses Z (va_A [(o 0, .inr (2, mFs o th p0 q0 r0 mu_4 zz))] H.size) H.size (fun q h => Or.inr h) o th p0 q0 r0 mu_4 zz (nI 3)) (cwV 1 hts (lw_V q2100 q2102 qs34 q107 q2103) rfl rfl rfl (by decide +kernel) ⟨Nat.le_of_ble_eq_true rfl, Nat.le_of_ble_eq_true rfl⟩) (gP_V (va_recv hK hP (ci := 2) (q0 := 0) rfl rfl) hG hS (fun q _ h => hF9 q h) ⟨rfl, (hP.sub (ws' := [(o 0, .inr (2, mFs o th p0 q0 r0 mu_4 zz))]) [0] rfl), (hD.sub (ws' := [(o 0, .inr (2, mFs o th p0 q0 r0 mu_4 zz))]) [0] (by decide) rfl).self⟩) rfl rfl hl.1 rfl (lv_room (Nat.le_of_ble_eq_true rfl)) dX7_map_59 ⟨by first | decide | omega, by first | decide | omega⟩) hP hD hS hA [0] [1, 2] rfl rfl (by decide) (by decide) (fun r9 u9 H locs hq hX hz hk hP hD hS => ?_)
        obtain ⟨r_16, rfl⟩ : ∃ z, z = r9 := ⟨_, rfl⟩
        obtain rfl := hq
        have hP : va_P (dC, dI) vwCl [(o 5, .inl (dA 1, 2640, .inr (.inl fA_2))), (o 6, .inl (dA 1, 32, .inr (.inl fM_3))), (o 0, .inr (2, mFs o (nI 3) p0 q0 r0 mu_4 zz))] H := hP
        have hD : va_D A [(o 5, .inl (dA 1, 2640, .inr (.inl fA_2))), (o 6, .inl (dA 1, 32, .inr (.inl fM_3))), (o 0, .inr (2, mFs o (nI 3) p0 q0 r0 mu_4 zz))] := hD
        subst hQe
        exact W.iret (v := nI 0) hx hb hr (fun tz ht hW => ⟨⟨_, (fA_2, fM_3, mu_4, nI 3), rfl, ModPost.mk0 (c := nI 3) (by unfold mapX; rw [if_neg (fun h => h h_w), rg_n (show ja < 8 by omega), nI_clamp (show jf < 2 ^ 31 by omega), e_7]; rfl) (fun k9 hk9 i9 hi9 => by (try dsimp only [outH] at hk9); show fA_2 (33 * k9 + i9) = fA (33 * k9 + i9); rw [hE_7 k9 (by omega) i9 hi9]), B1_at ht (hP.sub [2, 0, 1] rfl) (hD.sub [2, 0, 1] (by decide) rfl) trivial⟩, hS.F ht⟩) hS.2.2 dX7_map_62
    · have h_w := wm_n c_28
      refine lv_aload_n hx hb dX7_map_31 rfl (lv_at hl 1 rfl) ?_
      refine lv_iload hx hb dX7_map_32 (lv_at hl 0 rfl) ?_
      have hF9 := va_free (wc := [(o 0, .inr (2, mFs o th p0 q0 r0 mu zz))]) hD hS (fun q h => hA q h) [0] rfl
      refine c_i (wr := [(o 5, .inl (dA 1, 2640, .inr (.inl fA))), (o 6, .inl (dA 1, 32, .inr (.inl fM)))]) (va_runV (As := [.int (wmX (p0 + q0 + r0) Ms (rgB t && rgB a) f)]) (rest := []) ⟨hx, hb, hml, hown, hts⟩ (x7_refuses Z (va_A [(o 0, .inr (2, mFs o th p0 q0 r0 mu zz))] H.size) H.size (fun q h => Or.inr h) o th p0 q0 r0 mu zz (wmX (p0 + q0 + r0) Ms (rgB t && rgB a) f)) (cwV 1 hts (lw_V q2100 q2102 qs34 q107 q2103) rfl rfl rfl (by decide +kernel) ⟨Nat.le_of_ble_eq_true rfl, Nat.le_of_ble_eq_true rfl⟩) (gP_V (va_recv hK hP (ci := 2) (q0 := 0) rfl rfl) hG hS (fun q _ h => hF9 q h) ⟨rfl, (hP.sub (ws' := [(o 0, .inr (2, mFs o th p0 q0 r0 mu zz))]) [0] rfl), (hD.sub (ws' := [(o 0, .inr (2, mFs o th p0 q0 r0 mu zz))]) [0] (by decide) rfl).self⟩) rfl rfl hl.1 rfl (lv_room (Nat.le_of_ble_eq_true rfl)) dX7_map_34 ⟨by first | decide | omega, by first | decide | omega⟩) hP hD hS hA [0] [1, 2] rfl rfl (by decide) (by decide) (fun r9 u9 H locs hq hX hz hk hP hD hS => ?_)
      obtain ⟨r_17, rfl⟩ : ∃ z, z = r9 := ⟨_, rfl⟩
      obtain rfl := hq
      have hP : va_P (dC, dI) vwCl [(o 5, .inl (dA 1, 2640, .inr (.inl fA))), (o 6, .inl (dA 1, 32, .inr (.inl fM))), (o 0, .inr (2, mFs o (wmX (p0 + q0 + r0) Ms (rgB t && rgB a) f) p0 q0 r0 mu zz))] H := hP
      have hD : va_D A [(o 5, .inl (dA 1, 2640, .inr (.inl fA))), (o 6, .inl (dA 1, 32, .inr (.inl fM))), (o 0, .inr (2, mFs o (wmX (p0 + q0 + r0) Ms (rgB t && rgB a) f) p0 q0 r0 mu zz))] := hD
      subst hQe
      exact W.iret (v := nI 0) hx hb hr (fun tz ht hW => ⟨⟨_, (fA, fM, mu, wmX (p0 + q0 + r0) Ms (rgB t && rgB a) f), rfl, ModPost.mk0 (c := wmX (p0 + q0 + r0) Ms (rgB t && rgB a) f) (by unfold mapX; rw [if_pos h_w]) (fun k9 hk9 i9 hi9 => rfl), B1_at ht (hP.sub [2, 0, 1] rfl) (hD.sub [2, 0, 1] (by decide) rfl) trivial⟩, hS.F ht⟩) hS.2.2 dX7_map_37
  refine lv_iload_n hx hb dX7_map_1 rfl (lv_at hl 1 rfl) ?_
  refine s_i (va_runS (As := [.int t]) (rest := [.ref (o 0)]) ⟨hx, hb, hml, hown, hts⟩ (x7_isRegister Z t) (va_cwS 1 hts (lw_S q2104 q2105 q107 q2106) rfl rfl rfl (by decide +kernel) ⟨Nat.le_of_ble_eq_true rfl, Nat.le_of_ble_eq_true rfl⟩) (gP_S hG hS (fun q _ h => h.elim) trivial) rfl rfl hl.1 rfl (lv_room (Nat.le_of_ble_eq_true rfl)) dX7_map_2 ⟨by first | decide | omega, by first | decide | omega⟩) ?_
  refine lv_if_eq (tgt := 19) hx hb dX7_map_5 (by decide) (fun c_5 => ?_) (fun c_5 => ?_)
  · refine lv_iconst (v := nI 0) hx hb dX7_map_19 (by decide) ?_
    refine e_i (y := bI (rgB t && rgB a)) ((by rw [show rgB t = false from bI_0 c_5]; rfl)) ?_
    exact J_1  s.heap [] ls  (hP.sub [0, 1, 2] rfl) (hD.sub [0, 1, 2] (by decide) rfl) hS (lv_sub hl [0, 1, 2, 3] rfl)
  · refine lv_iload_n hx hb dX7_map_8 rfl (lv_at hl 2 rfl) ?_
    refine s_i (va_runS (As := [.int a]) (rest := [.ref (o 0)]) ⟨hx, hb, hml, hown, hts⟩ (x7_isRegister Z a) (va_cwS 1 hts (lw_S q2104 q2105 q107 q2106) rfl rfl rfl (by decide +kernel) ⟨Nat.le_of_ble_eq_true rfl, Nat.le_of_ble_eq_true rfl⟩) (gP_S hG hS (fun q _ h => h.elim) trivial) rfl rfl hl.1 rfl (lv_room (Nat.le_of_ble_eq_true rfl)) dX7_map_9 ⟨by first | decide | omega, by first | decide | omega⟩) ?_
    refine lv_if_eq (tgt := 19) hx hb dX7_map_12 (by decide) (fun c_12 => ?_) (fun c_12 => ?_)
    · refine lv_iconst (v := nI 0) hx hb dX7_map_19 (by decide) ?_
      refine e_i (y := bI (rgB t && rgB a)) ((by rw [show rgB a = false from bI_0 c_12, Bool.and_false]; rfl)) ?_
      exact J_1  s.heap [] ls  (hP.sub [0, 1, 2] rfl) (hD.sub [0, 1, 2] (by decide) rfl) hS (lv_sub hl [0, 1, 2, 3] rfl)
    · refine lv_iconst (v := nI 1) hx hb dX7_map_15 (by decide) ?_
      refine lv_goto (tgt := 20) hx hb dX7_map_16 (by decide) ?_
      refine e_i (y := bI (rgB t && rgB a)) ((by rw [show rgB t = true from bI_1 c_5, show rgB a = true from bI_1 c_12]; rfl)) ?_
      exact J_1  s.heap [] ls  (hP.sub [0, 1, 2] rfl) (hD.sub [0, 1, 2] (by decide) rfl) hS (lv_sub hl [0, 1, 2, 3] rfl)
set_option maxHeartbeats 4000000 in
theorem x7_determinant {l : Launch} {dC : Nat → ClassId} {dI : Nat → Nat → Nat} {dA : Nat → ClassId} {s0 : State} {b0 : Addr} (Z : Z0 l dC dI dA s0 b0) (A : Nat → Prop) (sz : Nat) (hA : ∀ q : Nat, sz ≤ q → A q) (o : Nat → Nat) (th : Int32) (p0 q0 r0 : Nat) (mu : Int64) (zz : Nat → Int32) (fA fM : Nat → Int64) (Ms : Nat → MV) (t : Int32) (f : Int32) (hn : p0 + q0 + r0 ≤ 5) (hR : ∀ k, k < 8 → Hold fA k (Ms k)) (sR : ∀ k, k < 8 → MSm (Ms k)) : Met l yX7_determinant (ws_ yX7_determinant cX7_determinant 5 (some .int)) ({ frames := 7, cells := 0, slots := 0, locals := 420 } : Room) (gP [.ref (o 0), .int t, .int f] s0 A (fun H => H.size = sz ∧ va_P (dC, dI) vwCl [(o 0, .inr (2, mFs o th p0 q0 r0 mu zz)), (o 5, .inl (dA 1, 2640, .inr (.inl fA))), (o 6, .inl (dA 1, 32, .inr (.inl fM)))] H ∧ va_D A [(o 0, .inr (2, mFs o th p0 q0 r0 mu zz)), (o 5, .inl (dA 1, 2640, .inr (.inl fA))), (o 6, .inl (dA 1, 32, .inr (.inl fM)))])) (va_Qi (S := (Nat → Int64) × (Nat → Int64) × Int64 × Int32) (fun r u => ModPost fA (rg t) (detX p0 q0 r0 Ms t f) u.2.2.2 r u.1) (B1 (dC, dI) A (fun u => mC dA o u.2.2.2 p0 q0 r0 u.2.2.1 zz u.1 u.2.1) (fun _ _ => True)) A) 0 0 A := by
  refine Met.ofW (cc := cX7_determinant) (maxL := 5) (ret := (some .int)) (by decide) rfl ?_
  intro p e s m args below meth c s₁ B hml hv
  obtain ⟨hav, hG, hsz, hP, hD⟩ := hv
  have hx := B.exec
  have hb := B.bytes
  have hr := B.returns
  have hts := atoms_spec (ws := (ws_ yX7_determinant cX7_determinant 5 (some .int))) B.pre
  have hts : ∀ w ∈ lw_all, w.before _ s = true := fun w h => hts w (List.mem_cons_of_mem _ h)
  have hown : s.vm.findClass RX7 = some m.cls := findClass_of_methodNamed B.named
  have hlocks := B.notSynchronized
  have hK := hG.K Z
  subst hsz
  have hS : va_S A s.heap s.heap [] := va_S.rf
  have hl := lv_entry ([.ref (o 0), .int t, .int f]) (n := 5) (Nat.le_of_ble_eq_true rfl)
  rw [show entryFrame m args 5 = entryFrame m ([.ref (o 0), .int t, .int f] : List Value).toArray 5 from by rw [hav], lg_entry_eq]
  generalize (lg_sl ([.ref (o 0), .int t, .int f]) ++ List.replicate (5 - (lg_sl ([.ref (o 0), .int t, .int f])).length) Slot.unset).toArray = ls at hl ⊢
  have hl : lv_has ls 5 [(0, .ref (o 0)), (1, .int t), (2, .int f)] := hl
  generalize hQe : MQ below _ _ s _ _ _ = Q
  change W p l e ({ frames := 7, cells := 0, slots := 0, locals := 420 } : Room) s m args below meth c s.heap [] 0 0 Q (F0 m 0 ls [])
  refine lv_aload_n hx hb dX7_determinant_0 rfl (lv_at hl 0 rfl) ?_
  refine lv_iload_n hx hb dX7_determinant_1 rfl (lv_at hl 1 rfl) ?_
  refine s_i (va_runS (As := [.int t]) (rest := [.ref (o 0)]) ⟨hx, hb, hml, hown, hts⟩ (x7_isRegister Z t) (va_cwS 1 hts (lw_S q2104 q2105 q107 q2106) rfl rfl rfl (by decide +kernel) ⟨Nat.le_of_ble_eq_true rfl, Nat.le_of_ble_eq_true rfl⟩) (gP_S hG hS (fun q _ h => h.elim) trivial) rfl rfl hl.1 rfl (lv_room (Nat.le_of_ble_eq_true rfl)) dX7_determinant_2 ⟨by first | decide | omega, by first | decide | omega⟩) ?_
  refine e_i (y := bI (rgB t)) (rfl) ?_
  refine lv_iload_n hx hb dX7_determinant_5 rfl (lv_at hl 2 rfl) ?_
  refine s_i (va_runV (As := [.int (bI (rgB t)), .int f]) (rest := []) ⟨hx, hb, hml, hown, hts⟩ (x7_wrongMap Z o th p0 q0 r0 mu zz fA Ms (rgB t) f hn hR) (cwV 2 hts (lw_V q2352 q2354 qs67 q107 q2355) rfl rfl rfl (by decide +kernel) ⟨Nat.le_of_ble_eq_true rfl, Nat.le_of_ble_eq_true rfl⟩) (gP_V (va_recv hK hP (ci := 2) (q0 := 0) rfl rfl) hG hS (fun q _ h => h.elim) (hP.sub (ws' := [(o 0, .inr (2, mFs o th p0 q0 r0 mu zz)), (o 5, .inl (dA 1, 2640, .inr (.inl fA)))]) [0, 1] rfl)) rfl rfl hl.1 rfl (lv_room (Nat.le_of_ble_eq_true rfl)) dX7_determinant_6 ⟨by first | decide | omega, by first | decide | omega⟩) ?_
  refine lv_istore_n (lv' := [(3, .int (wmX (p0 + q0 + r0) Ms (rgB t) f)), (0, .ref (o 0)), (1, .int t), (2, .int f)]) hx hb dX7_determinant_9 rfl hl (by decide) rfl (fun ls hl => ?_)
  refine lv_iload_n hx hb dX7_determinant_10 rfl (lv_at hl 0 rfl) ?_
  refine lv_if_le (tgt := 20) hx hb dX7_determinant_11 (by decide) (fun c_11 => ?_) (fun c_11 => ?_)
  · have h_w := wm_0 c_11
    obtain ⟨h_ab, h_f, -⟩ := wm_ok h_w
    obtain ⟨jf, hj_f, rfl⟩ := inB_nat (by omega) h_f
    obtain ⟨jt, hj_t, rfl⟩ := inB_nat (by decide) h_ab
    have h5 := pow5 hn
    refine lv_aload_n hx hb dX7_determinant_20 rfl (lv_at hl 1 rfl) ?_
    refine lv_bipush (v := nI 29) hx hb dX7_determinant_21 (by decide) ?_
    have hF9 := va_free (wc := [(o 0, .inr (2, mFs o th p0 q0 r0 mu zz)), (o 5, .inl (dA 1, 2640, .inr (.inl fA)))]) hD hS (fun q h => hA q h) [0, 1] rfl
    refine c_v (wr := [(o 6, .inl (dA 1, 32, .inr (.inl fM)))]) (va_runV (As := [.int (nI 29)]) (rest := []) ⟨hx, hb, hml, hown, hts⟩ (x7_empties Z (va_A [(o 0, .inr (2, mFs o th p0 q0 r0 mu zz)), (o 5, .inl (dA 1, 2640, .inr (.inl fA)))] s.heap.size) s.heap.size (fun q h => Or.inr h) o th p0 q0 r0 mu zz fA fM 29 (by omega)) (cwV 1 hts (lw_V q2221 q2223 qs54 q107 q2224) rfl rfl rfl (by decide +kernel) ⟨Nat.le_of_ble_eq_true rfl, Nat.le_of_ble_eq_true rfl⟩) (gP_V (va_recv hK hP (ci := 2) (q0 := 0) rfl rfl) hG hS (fun q _ h => hF9 q h) ⟨rfl, (hP.sub (ws' := [(o 0, .inr (2, mFs o th p0 q0 r0 mu zz)), (o 5, .inl (dA 1, 2640, .inr (.inl fA)))]) [0, 1] rfl), (hD.sub (ws' := [(o 0, .inr (2, mFs o th p0 q0 r0 mu zz)), (o 5, .inl (dA 1, 2640, .inr (.inl fA)))]) [0, 1] (by decide) rfl).self⟩) rfl rfl hl.1 rfl (lv_room (Nat.le_of_ble_eq_true rfl)) dX7_determinant_23 ⟨by first | decide | omega, by first | decide | omega⟩) hP hD hS hA [0, 1] [2] rfl rfl (by decide) (by decide) (fun u9 H locs hq hX hz hk hP hD hS => ?_)
    obtain ⟨fA_1, rfl⟩ : ∃ z, z = u9 := ⟨_, rfl⟩
    have hq_2 := hq
    have hP : va_P (dC, dI) vwCl [(o 6, .inl (dA 1, 32, .inr (.inl fM))), (o 0, .inr (2, mFs o th p0 q0 r0 mu zz)), (o 5, .inl (dA 1, 2640, .inr (.inl fA_1)))] H := hP
    have hD : va_D A [(o 6, .inl (dA 1, 32, .inr (.inl fM))), (o 0, .inr (2, mFs o th p0 q0 r0 mu zz)), (o 5, .inl (dA 1, 2640, .inr (.inl fA_1)))] := hD
    obtain ⟨hH_k_3, hS_k_3⟩ := hq_2
    refine lv_aload_n hx hb dX7_determinant_26 rfl (lv_at hl 1 rfl) ?_
    refine va_get (D := (dC, dI)) (ci := 2) (v := .ref (o 5)) (C := RX7) (T := TX7) (N := 27) hx hb hts in_X7 hown hK hP 1 rfl rfl 8 (by decide) (hts _ q2014) (fun _ h9 => h9) rfl dX7_determinant_27 ?_
    refine lv_sipush (v := nI 958) hx hb dX7_determinant_30 (by decide) ?_
    refine lv_aload_n hx hb dX7_determinant_33 rfl (lv_at hl 1 rfl) ?_
    refine s_i (va_runV (As := []) (rest := [.int (nI 958), .ref (o 5)]) ⟨hx, hb, hml, hown, hts⟩ (x7_full Z o th p0 q0 r0 mu zz (by omega)) (cwV 0 hts (lw_V q2147 q2149 qs43 q107 q2150) rfl rfl rfl (by decide +kernel) ⟨Nat.le_of_ble_eq_true rfl, Nat.le_of_ble_eq_true rfl⟩) (gP_V (va_recv hK hP (ci := 2) (q0 := 1) rfl rfl) hG hS (fun q _ h => h.elim) (hP.sub (ws' := [(o 0, .inr (2, mFs o th p0 q0 r0 mu zz))]) [1] rfl)) rfl rfl hl.1 rfl (lv_room (Nat.le_of_ble_eq_true rfl)) dX7_determinant_34 ⟨by first | decide | omega, by first | decide | omega⟩) ?_
    refine lv_iadd hx hb dX7_determinant_37 ?_
    refine e_i (y := nI (958 + (2 ^ (p0 + q0 + r0) - 1))) (nI_add _ _) ?_
    refine lv_lconst (v := 1) hx hb dX7_determinant_38 rfl ?_
    refine a_last hx hb hK hP hD hS 2 1 rfl rfl (by omega) (by omega) dX7_determinant_39 (fun H locs hP hD hS => ?_)
    have hP : va_P (dC, dI) vwCl [(o 6, .inl (dA 1, 32, .inr (.inl fM))), (o 0, .inr (2, mFs o th p0 q0 r0 mu zz)), (o 5, .inl (dA 1, 2640, .inr (.inl (vp_updL fA_1 (958 + (2 ^ (p0 + q0 + r0) - 1)) 1))))] H := hP
    have hD : va_D A [(o 6, .inl (dA 1, 32, .inr (.inl fM))), (o 0, .inr (2, mFs o th p0 q0 r0 mu zz)), (o 5, .inl (dA 1, 2640, .inr (.inl (vp_updL fA_1 (958 + (2 ^ (p0 + q0 + r0) - 1)) 1))))] := hD
    have hh_5 := bas_hold (b := 2 ^ (p0 + q0 + r0) - 1) (by omega) hH_k_3
    have hs_6 := up_same (f := fA_1) (k := 29) (n := 958 + (2 ^ (p0 + q0 + r0) - 1)) (x := 1) (by omega)
    generalize vp_updL fA_1 (958 + (2 ^ (p0 + q0 + r0) - 1)) 1 = fA_4 at hP hD hh_5 hs_6
    have hRn : ∀ k, k < 8 → Hold fA_4 k (Ms k) := fun k hk => hs_6.hold (j := k) (by omega) (hS_k_3.hold (j := k) (by omega) (hR k hk))
    refine lv_aload_n hx hb dX7_determinant_40 rfl (lv_at hl 1 rfl) ?_
    refine lv_bipush (v := nI 29) hx hb dX7_determinant_41 (by decide) ?_
    refine lv_iload_n hx hb dX7_determinant_43 rfl (lv_at hl 3 rfl) ?_
    have hF9 := va_free (wc := [(o 0, .inr (2, mFs o th p0 q0 r0 mu zz)), (o 5, .inl (dA 1, 2640, .inr (.inl fA_4))), (o 6, .inl (dA 1, 32, .inr (.inl fM)))]) hD hS (fun q h => hA q h) [1, 2, 0] rfl
    refine c_i (wr := []) (va_runV (As := [.int (nI 29), .int (nI jf)]) (rest := []) ⟨hx, hb, hml, hown, hts⟩ (x7_maps Z (va_A [(o 0, .inr (2, mFs o th p0 q0 r0 mu zz)), (o 5, .inl (dA 1, 2640, .inr (.inl fA_4))), (o 6, .inl (dA 1, 32, .inr (.inl fM)))] H.size) H.size (fun q h => Or.inr h) o th p0 q0 r0 mu zz fA_4 fM Ms 29 jf (basM (2 ^ (p0 + q0 + r0) - 1)) hn hRn sR (by omega) (by omega) (by omega) hh_5 (basM_sm _)) (cwV 2 hts (lw_V q2356 q2358 qs68 q107 q2359) rfl rfl rfl (by decide +kernel) ⟨Nat.le_of_ble_eq_true rfl, Nat.le_of_ble_eq_true rfl⟩) (gP_V (va_recv hK hP (ci := 2) (q0 := 1) rfl rfl) hG hS (fun q _ h => hF9 q h) ⟨rfl, (hP.sub (ws' := [(o 0, .inr (2, mFs o th p0 q0 r0 mu zz)), (o 5, .inl (dA 1, 2640, .inr (.inl fA_4))), (o 6, .inl (dA 1, 32, .inr (.inl fM)))]) [1, 2, 0] rfl), (hD.sub (ws' := [(o 0, .inr (2, mFs o th p0 q0 r0 mu zz)), (o 5, .inl (dA 1, 2640, .inr (.inl fA_4))), (o 6, .inl (dA 1, 32, .inr (.inl fM)))]) [1, 2, 0] (by decide) rfl).self⟩) rfl rfl hl.1 rfl (lv_room (Nat.le_of_ble_eq_true rfl)) dX7_determinant_44 ⟨by first | decide | omega, by first | decide | omega⟩) hP hD hS hA [1, 2, 0] [] rfl rfl (by decide) (by decide) (fun r9 u9 H locs hq hX hz hk hP hD hS => ?_)
    obtain ⟨fA_7, fM_8, mu_9⟩ := u9
    obtain ⟨r_10, rfl⟩ : ∃ z, z = r9 := ⟨_, rfl⟩
    have hq_11 := hq
    try dsimp only at hq_11
    have hP : va_P (dC, dI) vwCl [(o 0, .inr (2, mFs o th p0 q0 r0 mu_9 zz)), (o 5, .inl (dA 1, 2640, .inr (.inl fA_7))), (o 6, .inl (dA 1, 32, .inr (.inl fM_8)))] H := hP
    have hD : va_D A [(o 0, .inr (2, mFs o th p0 q0 r0 mu_9 zz)), (o 5, .inl (dA 1, 2640, .inr (.inl fA_7))), (o 6, .inl (dA 1, 32, .inr (.inl fM_8)))] := hD
    rcases hq_11 with ⟨P_12, e_12, rfl, hH_12, hS_12⟩ | ⟨e_12, rfl, hE_12⟩
    · have sm_13 : MSm P_12 := mpS_sm (basM_sm _) sR (by omega) _ (pow5 hn).1 _ e_12
      have hh_14 := hS_12.hold (k := 29) (by omega) hh_5
      refine lv_if_ne (tgt := 56) hx hb dX7_determinant_47 (by decide) (fun c_47 => ?_) (fun c_47 => ?_)
      rotate_left
      · exact absurd c_47 (by decide)
      refine lv_aload_n hx hb dX7_determinant_56 rfl (lv_at hl 1 rfl) ?_
      have hF9 := va_free (wc := [(o 0, .inr (2, mFs o th p0 q0 r0 mu_9 zz)), (o 5, .inl (dA 1, 2640, .inr (.inl fA_7))), (o 6, .inl (dA 1, 32, .inr (.inl fM_8)))]) hD hS (fun q h => hA q h) [0, 1, 2] rfl
      refine c_v (wr := []) (va_runV (As := []) (rest := []) ⟨hx, hb, hml, hown, hts⟩ (x7_clearsMade Z (va_A [(o 0, .inr (2, mFs o th p0 q0 r0 mu_9 zz)), (o 5, .inl (dA 1, 2640, .inr (.inl fA_7))), (o 6, .inl (dA 1, 32, .inr (.inl fM_8)))] H.size) H.size (fun q h => Or.inr h) o th p0 q0 r0 mu_9 zz fA_7 fM_8) (cwV 0 hts (lw_V q2115 q2117 qs37 q107 q2118) rfl rfl rfl (by decide +kernel) ⟨Nat.le_of_ble_eq_true rfl, Nat.le_of_ble_eq_true rfl⟩) (gP_V (va_recv hK hP (ci := 2) (q0 := 0) rfl rfl) hG hS (fun q _ h => hF9 q h) ⟨rfl, (hP.sub (ws' := [(o 0, .inr (2, mFs o th p0 q0 r0 mu_9 zz)), (o 5, .inl (dA 1, 2640, .inr (.inl fA_7))), (o 6, .inl (dA 1, 32, .inr (.inl fM_8)))]) [0, 1, 2] rfl), (hD.sub (ws' := [(o 0, .inr (2, mFs o th p0 q0 r0 mu_9 zz)), (o 5, .inl (dA 1, 2640, .inr (.inl fA_7))), (o 6, .inl (dA 1, 32, .inr (.inl fM_8)))]) [0, 1, 2] (by decide) rfl).self⟩) rfl rfl hl.1 rfl (lv_room (Nat.le_of_ble_eq_true rfl)) dX7_determinant_57 ⟨by first | decide | omega, by first | decide | omega⟩) hP hD hS hA [0, 1, 2] [] rfl rfl (by decide) (by decide) (fun u9 H locs hq hX hz hk hP hD hS => ?_)
      have hP : va_P (dC, dI) vwCl [(o 0, .inr (2, mFs o th p0 q0 r0 1 zz)), (o 5, .inl (dA 1, 2640, .inr (.inl fA_7))), (o 6, .inl (dA 1, 32, .inr (.inl (fun _ => 0))))] H := hP
      have hD : va_D A [(o 0, .inr (2, mFs o th p0 q0 r0 1 zz)), (o 5, .inl (dA 1, 2640, .inr (.inl fA_7))), (o 6, .inl (dA 1, 32, .inr (.inl (fun _ => 0))))] := hD
      refine lv_aload_n hx hb dX7_determinant_60 rfl (lv_at hl 1 rfl) ?_
      refine va_get (D := (dC, dI)) (ci := 2) (v := .ref (o 6)) (C := RX7) (T := TX7) (N := 27) hx hb hts in_X7 hown hK hP 0 rfl rfl 9 (by decide) (hts _ q2015) (fun _ h9 => h9) rfl dX7_determinant_61 ?_
      refine lv_iconst (v := nI 0) hx hb dX7_determinant_64 (by decide) ?_
      refine lv_aload_n hx hb dX7_determinant_65 rfl (lv_at hl 1 rfl) ?_
      refine lv_bipush (v := nI 24) hx hb dX7_determinant_66 (by decide) ?_
      refine lv_aload_n hx hb dX7_determinant_68 rfl (lv_at hl 1 rfl) ?_
      refine s_i (va_runV (As := []) (rest := [.int (nI 24), .ref (o 0), .int (nI 0), .ref (o 6)]) ⟨hx, hb, hml, hown, hts⟩ (x7_full Z o th p0 q0 r0 1 zz (by omega)) (cwV 0 hts (lw_V q2147 q2149 qs43 q107 q2150) rfl rfl rfl (by decide +kernel) ⟨Nat.le_of_ble_eq_true rfl, Nat.le_of_ble_eq_true rfl⟩) (gP_V (va_recv hK hP (ci := 2) (q0 := 0) rfl rfl) hG hS (fun q _ h => h.elim) (hP.sub (ws' := [(o 0, .inr (2, mFs o th p0 q0 r0 1 zz))]) [0] rfl)) rfl rfl hl.1 rfl (lv_room (Nat.le_of_ble_eq_true rfl)) dX7_determinant_69 ⟨by first | decide | omega, by first | decide | omega⟩) ?_
      refine s_l (va_runV (As := [.int (nI 24), .int (nI (2 ^ (p0 + q0 + r0) - 1))]) (rest := [.int (nI 0), .ref (o 6)]) ⟨hx, hb, hml, hown, hts⟩ (x7_of Z o th p0 q0 r0 1 zz fA_7 24 (2 ^ (p0 + q0 + r0) - 1) (by omega)) (cwV 2 hts (lw_V q2119 q2121 qs38 q107 q2122) rfl rfl rfl (by decide +kernel) ⟨Nat.le_of_ble_eq_true rfl, Nat.le_of_ble_eq_true rfl⟩) (gP_V (va_recv hK hP (ci := 2) (q0 := 0) rfl rfl) hG hS (fun q _ h => h.elim) (hP.sub (ws' := [(o 0, .inr (2, mFs o th p0 q0 r0 1 zz)), (o 5, .inl (dA 1, 2640, .inr (.inl fA_7)))]) [0, 1] rfl)) rfl rfl hl.1 rfl (lv_room (Nat.le_of_ble_eq_true rfl)) dX7_determinant_72 ⟨by first | decide | omega, by first | decide | omega⟩) ?_
      refine e_l (y := P_12 ((2 ^ (p0 + q0 + r0) - 1) + 1)) (hold_at hH_12 (i := (2 ^ (p0 + q0 + r0) - 1) + 1) (by omega) (by omega)) ?_
      refine a_last hx hb hK hP hD hS 2 1 rfl rfl (by omega) (by omega) dX7_determinant_75 (fun H locs hP hD hS => ?_)
      have hP : va_P (dC, dI) vwCl [(o 0, .inr (2, mFs o th p0 q0 r0 1 zz)), (o 5, .inl (dA 1, 2640, .inr (.inl fA_7))), (o 6, .inl (dA 1, 32, .inr (.inl (vp_updL (fun _ => 0) 0 (P_12 ((2 ^ (p0 + q0 + r0) - 1) + 1))))))] H := hP
      have hD : va_D A [(o 0, .inr (2, mFs o th p0 q0 r0 1 zz)), (o 5, .inl (dA 1, 2640, .inr (.inl fA_7))), (o 6, .inl (dA 1, 32, .inr (.inl (vp_updL (fun _ => 0) 0 (P_12 ((2 ^ (p0 + q0 + r0) - 1) + 1))))))] := hD
      have hP := P_L hP 2 (detR P_12 (2 ^ (p0 + q0 + r0) - 1)) rfl (fun j hj => by by_cases h : j = 0; (subst h; rw [pk_uLs]; rfl); (rw [pk_uLn h]; unfold detR; rw [if_neg h]))
      have hD := va_D.set (e := .inl (dA 1, 32, .inr (.inl (detR P_12 (2 ^ (p0 + q0 + r0) - 1))))) hD (p := 2) rfl
      have hP : va_P (dC, dI) vwCl [(o 0, .inr (2, mFs o th p0 q0 r0 1 zz)), (o 5, .inl (dA 1, 2640, .inr (.inl fA_7))), (o 6, .inl (dA 1, 32, .inr (.inl (detR P_12 (2 ^ (p0 + q0 + r0) - 1)))))] H := hP
      have hD : va_D A [(o 0, .inr (2, mFs o th p0 q0 r0 1 zz)), (o 5, .inl (dA 1, 2640, .inr (.inl fA_7))), (o 6, .inl (dA 1, 32, .inr (.inl (detR P_12 (2 ^ (p0 + q0 + r0) - 1)))))] := hD
      refine lv_aload_n hx hb dX7_determinant_76 rfl (lv_at hl 1 rfl) ?_
      refine lv_aload_n hx hb dX7_determinant_77 rfl (lv_at hl 1 rfl) ?_
      refine lv_bipush (v := nI 24) hx hb dX7_determinant_78 (by decide) ?_
      refine s_l (va_runV (As := [.int (nI 24)]) (rest := [.ref (o 0)]) ⟨hx, hb, hml, hown, hts⟩ (x7_under Z o th p0 q0 r0 1 zz fA_7 24 (by omega)) (cwV 1 hts (lw_V q2123 q2125 qs39 q107 q2126) rfl rfl rfl (by decide +kernel) ⟨Nat.le_of_ble_eq_true rfl, Nat.le_of_ble_eq_true rfl⟩) (gP_V (va_recv hK hP (ci := 2) (q0 := 0) rfl rfl) hG hS (fun q _ h => h.elim) (hP.sub (ws' := [(o 0, .inr (2, mFs o th p0 q0 r0 1 zz)), (o 5, .inl (dA 1, 2640, .inr (.inl fA_7)))]) [0, 1] rfl)) rfl rfl hl.1 rfl (lv_room (Nat.le_of_ble_eq_true rfl)) dX7_determinant_80 ⟨by first | decide | omega, by first | decide | omega⟩) ?_
      refine e_l (y := P_12 0) (hold_at hH_12 (i := 0) (by omega) (by omega)) ?_
      refine va_put (D := (dC, dI)) (ci := 2) (v := .long (P_12 0)) (ty := .long) (C := RX7) (T := TX7) (N := 27) hx hb hts in_X7 tyX7 tyX7_ok nmX7 hown hK hP hD hS 0 rfl rfl 10 (by decide) (hts _ q2016) (fun _ h9 => h9) rfl (by decide +kernel) rfl rfl (Nat.le_of_ble_eq_true rfl) dX7_determinant_83 (fun H locs hP hD hS => ?_)
      have hP : va_P (dC, dI) vwCl [(o 0, .inr (2, mFs o th p0 q0 r0 (P_12 0) zz)), (o 5, .inl (dA 1, 2640, .inr (.inl fA_7))), (o 6, .inl (dA 1, 32, .inr (.inl (detR P_12 (2 ^ (p0 + q0 + r0) - 1)))))] H := hP
      have hD : va_D A [(o 0, .inr (2, mFs o th p0 q0 r0 (P_12 0) zz)), (o 5, .inl (dA 1, 2640, .inr (.inl fA_7))), (o 6, .inl (dA 1, 32, .inr (.inl (detR P_12 (2 ^ (p0 + q0 + r0) - 1)))))] := hD
      refine lv_aload_n hx hb dX7_determinant_86 rfl (lv_at hl 1 rfl) ?_
      refine lv_bipush (v := nI 24) hx hb dX7_determinant_87 (by decide) ?_
      have hF9 := va_free (wc := [(o 0, .inr (2, mFs o th p0 q0 r0 (P_12 0) zz)), (o 5, .inl (dA 1, 2640, .inr (.inl fA_7))), (o 6, .inl (dA 1, 32, .inr (.inl (detR P_12 (2 ^ (p0 + q0 + r0) - 1)))))]) hD hS (fun q h => hA q h) [0, 1, 2] rfl
      refine c_i (wr := []) (va_runV (As := [.int (nI 24)]) (rest := []) ⟨hx, hb, hml, hown, hts⟩ (x7_puts Z (va_A [(o 0, .inr (2, mFs o th p0 q0 r0 (P_12 0) zz)), (o 5, .inl (dA 1, 2640, .inr (.inl fA_7))), (o 6, .inl (dA 1, 32, .inr (.inl (detR P_12 (2 ^ (p0 + q0 + r0) - 1)))))] H.size) H.size (fun q h => Or.inr h) o th p0 q0 r0 (P_12 0) zz fA_7 (detR P_12 (2 ^ (p0 + q0 + r0) - 1)) 24 (by omega) sm_13.1 (fun j hj => ne_min_of (detR_bd sm_13 (by omega) j) (by decide))) (cwV 1 hts (lw_V q2127 q2129 qs40 q107 q2130) rfl rfl rfl (by decide +kernel) ⟨Nat.le_of_ble_eq_true rfl, Nat.le_of_ble_eq_true rfl⟩) (gP_V (va_recv hK hP (ci := 2) (q0 := 0) rfl rfl) hG hS (fun q _ h => hF9 q h) ⟨rfl, (hP.sub (ws' := [(o 0, .inr (2, mFs o th p0 q0 r0 (P_12 0) zz)), (o 5, .inl (dA 1, 2640, .inr (.inl fA_7))), (o 6, .inl (dA 1, 32, .inr (.inl (detR P_12 (2 ^ (p0 + q0 + r0) - 1)))))]) [0, 1, 2] rfl), (hD.sub (ws' := [(o 0, .inr (2, mFs o th p0 q0 r0 (P_12 0) zz)), (o 5, .inl (dA 1, 2640, .inr (.inl fA_7))), (o 6, .inl (dA 1, 32, .inr (.inl (detR P_12 (2 ^ (p0 + q0 + r0) - 1)))))]) [0, 1, 2] (by decide) rfl).self⟩) rfl rfl hl.1 rfl (lv_room (Nat.le_of_ble_eq_true rfl)) dX7_determinant_89 ⟨by first | decide | omega, by first | decide | omega⟩) hP hD hS hA [0, 1, 2] [] rfl rfl (by decide) (by decide) (fun r9 u9 H locs hq hX hz hk hP hD hS => ?_)
      obtain ⟨fA_15, fM_16, mu_17⟩ := u9
      obtain ⟨r_18, rfl⟩ : ∃ z, z = r9 := ⟨_, rfl⟩
      have hq_19 := hq
      try dsimp only at hq_19
      have hP : va_P (dC, dI) vwCl [(o 0, .inr (2, mFs o th p0 q0 r0 mu_17 zz)), (o 5, .inl (dA 1, 2640, .inr (.inl fA_15))), (o 6, .inl (dA 1, 32, .inr (.inl fM_16)))] H := hP
      have hD : va_D A [(o 0, .inr (2, mFs o th p0 q0 r0 mu_17 zz)), (o 5, .inl (dA 1, 2640, .inr (.inl fA_15))), (o 6, .inl (dA 1, 32, .inr (.inl fM_16)))] := hD
      rw [fitS_t (fit_small sm_13.1 sm_13.2.1 (fun j hj => detR_bd sm_13 (by omega) j))] at hq_19
      obtain ⟨rfl, hH_k_20, hS_k_20⟩ := hq_19
      have hh_21 := hS_k_20.hold (j := 29) (by omega) hh_14
      refine lv_istore (lv' := [(4, .int (nI 1)), (3, .int (wmX (p0 + q0 + r0) Ms (rgB (nI jt)) (nI jf))), (0, .ref (o 0)), (1, .int (nI jt)), (2, .int (nI jf))]) hx hb dX7_determinant_92 hl (by decide) rfl (fun ls hl => ?_)
      refine lv_aload_n hx hb dX7_determinant_94 rfl (lv_at hl 2 rfl) ?_
      refine lv_bipush (v := nI 24) hx hb dX7_determinant_95 (by decide) ?_
      refine lv_iload_n hx hb dX7_determinant_97 rfl (lv_at hl 3 rfl) ?_
      have hF9 := va_free (wc := [(o 0, .inr (2, mFs o th p0 q0 r0 mu_17 zz)), (o 5, .inl (dA 1, 2640, .inr (.inl fA_15)))]) hD hS (fun q h => hA q h) [0, 1] rfl
      refine c_i (wr := [(o 6, .inl (dA 1, 32, .inr (.inl fM_16)))]) (va_runV (As := [.int (nI 24), .int (nI jt)]) (rest := []) ⟨hx, hb, hml, hown, hts⟩ (x7_gives Z (va_A [(o 0, .inr (2, mFs o th p0 q0 r0 mu_17 zz)), (o 5, .inl (dA 1, 2640, .inr (.inl fA_15)))] H.size) H.size (fun q h => Or.inr h) o th p0 q0 r0 mu_17 zz fA_15 fM_16 24 jt (by omega) (by omega)) (cwV 2 hts (lw_V q2181 q2183 qs48 q107 q2184) rfl rfl rfl (by decide +kernel) ⟨Nat.le_of_ble_eq_true rfl, Nat.le_of_ble_eq_true rfl⟩) (gP_V (va_recv hK hP (ci := 2) (q0 := 0) rfl rfl) hG hS (fun q _ h => hF9 q h) ⟨rfl, (hP.sub (ws' := [(o 0, .inr (2, mFs o th p0 q0 r0 mu_17 zz)), (o 5, .inl (dA 1, 2640, .inr (.inl fA_15)))]) [0, 1] rfl), (hD.sub (ws' := [(o 0, .inr (2, mFs o th p0 q0 r0 mu_17 zz)), (o 5, .inl (dA 1, 2640, .inr (.inl fA_15)))]) [0, 1] (by decide) rfl).self⟩) rfl rfl hl.1 rfl (lv_room (Nat.le_of_ble_eq_true rfl)) dX7_determinant_98 ⟨by first | decide | omega, by first | decide | omega⟩) hP hD hS hA [0, 1] [2] rfl rfl (by decide) (by decide) (fun r9 u9 H locs hq hX hz hk hP hD hS => ?_)
      obtain ⟨r_22, rfl⟩ : ∃ z, z = r9 := ⟨_, rfl⟩
      obtain rfl := hq
      have hP : va_P (dC, dI) vwCl [(o 6, .inl (dA 1, 32, .inr (.inl fM_16))), (o 0, .inr (2, mFs o (nI 0) p0 q0 r0 mu_17 zz)), (o 5, .inl (dA 1, 2640, .inr (.inl (cpS fA_15 24 jt))))] H := hP
      have hD : va_D A [(o 6, .inl (dA 1, 32, .inr (.inl fM_16))), (o 0, .inr (2, mFs o (nI 0) p0 q0 r0 mu_17 zz)), (o 5, .inl (dA 1, 2640, .inr (.inl (cpS fA_15 24 jt))))] := hD
      have hc_24 := cpS_hold (t := jt) hH_k_20
      have hs_25 := cpS_same (fA := fA_15) (k := 24) (t := jt)
      generalize cpS fA_15 24 jt = fA_23 at hP hD hc_24 hs_25 ⊢
      have hh_26 := hs_25.hold (j := 29) (by omega) hh_21
      have hh_27 := hs_25.hold (j := 24) (by omega) hH_k_20
      subst hQe
      exact W.iret (v := nI (cntN (fun j => fA_23 (33 * jt + 1 + j)) 32)) hx hb hr (fun tz ht hW => ⟨⟨_, (fA_23, fM_16, mu_17, nI 0), rfl, (by rw [rg_n (show jt < 8 by omega)]; exact ModPost.mk1 (P := (redS (P_12 0) (detR P_12 (2 ^ (p0 + q0 + r0) - 1)))) (by unfold detX; rw [if_neg (fun h => h h_w), nI_clamp (show jf < 2 ^ 31 by omega), e_12]) hc_24 (fun k9 hk9 i9 hi9 => by (try dsimp only [outH] at hk9); show fA_23 (33 * k9 + i9) = fA (33 * k9 + i9); rw [hs_25 _ (by omega), hS_k_20 _ (by omega), hS_12 k9 (by omega) i9 hi9, hs_6 _ (by omega), hS_k_3 _ (by omega)])), B1_at ht (hP.sub [1, 2, 0] rfl) (hD.sub [1, 2, 0] (by decide) rfl) trivial⟩, hS.F ht⟩) hS.2.2 dX7_determinant_101
    · have hh_28 := hE_12.hold (k := 29) (by omega) hh_5
      refine lv_if_ne (tgt := 56) hx hb dX7_determinant_47 (by decide) (fun c_47 => ?_) (fun c_47 => ?_)
      · exact absurd (by decide) c_47
      refine lv_aload_n hx hb dX7_determinant_50 rfl (lv_at hl 1 rfl) ?_
      refine lv_iconst (v := nI 3) hx hb dX7_determinant_51 (by decide) ?_
      have hF9 := va_free (wc := [(o 0, .inr (2, mFs o th p0 q0 r0 mu_9 zz))]) hD hS (fun q h => hA q h) [0] rfl
      refine c_i (wr := [(o 5, .inl (dA 1, 2640, .inr (.inl fA_7))), (o 6, .inl (dA 1, 32, .inr (.inl fM_8)))]) (va_runV (As := [.int (nI 3)]) (rest := []) ⟨hx, hb, hml, hown, hts⟩ (x7_refuses Z (va_A [(o 0, .inr (2, mFs o th p0 q0 r0 mu_9 zz))] H.size) H.size (fun q h => Or.inr h) o th p0 q0 r0 mu_9 zz (nI 3)) (cwV 1 hts (lw_V q2100 q2102 qs34 q107 q2103) rfl rfl rfl (by decide +kernel) ⟨Nat.le_of_ble_eq_true rfl, Nat.le_of_ble_eq_true rfl⟩) (gP_V (va_recv hK hP (ci := 2) (q0 := 0) rfl rfl) hG hS (fun q _ h => hF9 q h) ⟨rfl, (hP.sub (ws' := [(o 0, .inr (2, mFs o th p0 q0 r0 mu_9 zz))]) [0] rfl), (hD.sub (ws' := [(o 0, .inr (2, mFs o th p0 q0 r0 mu_9 zz))]) [0] (by decide) rfl).self⟩) rfl rfl hl.1 rfl (lv_room (Nat.le_of_ble_eq_true rfl)) dX7_determinant_52 ⟨by first | decide | omega, by first | decide | omega⟩) hP hD hS hA [0] [1, 2] rfl rfl (by decide) (by decide) (fun r9 u9 H locs hq hX hz hk hP hD hS => ?_)
      obtain ⟨r_29, rfl⟩ : ∃ z, z = r9 := ⟨_, rfl⟩
      obtain rfl := hq
      have hP : va_P (dC, dI) vwCl [(o 5, .inl (dA 1, 2640, .inr (.inl fA_7))), (o 6, .inl (dA 1, 32, .inr (.inl fM_8))), (o 0, .inr (2, mFs o (nI 3) p0 q0 r0 mu_9 zz))] H := hP
      have hD : va_D A [(o 5, .inl (dA 1, 2640, .inr (.inl fA_7))), (o 6, .inl (dA 1, 32, .inr (.inl fM_8))), (o 0, .inr (2, mFs o (nI 3) p0 q0 r0 mu_9 zz))] := hD
      subst hQe
      exact W.iret (v := nI 0) hx hb hr (fun tz ht hW => ⟨⟨_, (fA_7, fM_8, mu_9, nI 3), rfl, ModPost.mk0 (c := nI 3) (by unfold detX; rw [if_neg (fun h => h h_w), nI_clamp (show jf < 2 ^ 31 by omega), e_12]) (fun k9 hk9 i9 hi9 => by (try dsimp only [outH] at hk9); show fA_7 (33 * k9 + i9) = fA (33 * k9 + i9); rw [hE_12 k9 (by omega) i9 hi9, hs_6 _ (by omega), hS_k_3 _ (by omega)]), B1_at ht (hP.sub [2, 0, 1] rfl) (hD.sub [2, 0, 1] (by decide) rfl) trivial⟩, hS.F ht⟩) hS.2.2 dX7_determinant_55
  · have h_w := wm_n c_11
    refine lv_aload_n hx hb dX7_determinant_14 rfl (lv_at hl 1 rfl) ?_
    refine lv_iload_n hx hb dX7_determinant_15 rfl (lv_at hl 0 rfl) ?_
    have hF9 := va_free (wc := [(o 0, .inr (2, mFs o th p0 q0 r0 mu zz))]) hD hS (fun q h => hA q h) [0] rfl
    refine c_i (wr := [(o 5, .inl (dA 1, 2640, .inr (.inl fA))), (o 6, .inl (dA 1, 32, .inr (.inl fM)))]) (va_runV (As := [.int (wmX (p0 + q0 + r0) Ms (rgB t) f)]) (rest := []) ⟨hx, hb, hml, hown, hts⟩ (x7_refuses Z (va_A [(o 0, .inr (2, mFs o th p0 q0 r0 mu zz))] s.heap.size) s.heap.size (fun q h => Or.inr h) o th p0 q0 r0 mu zz (wmX (p0 + q0 + r0) Ms (rgB t) f)) (cwV 1 hts (lw_V q2100 q2102 qs34 q107 q2103) rfl rfl rfl (by decide +kernel) ⟨Nat.le_of_ble_eq_true rfl, Nat.le_of_ble_eq_true rfl⟩) (gP_V (va_recv hK hP (ci := 2) (q0 := 0) rfl rfl) hG hS (fun q _ h => hF9 q h) ⟨rfl, (hP.sub (ws' := [(o 0, .inr (2, mFs o th p0 q0 r0 mu zz))]) [0] rfl), (hD.sub (ws' := [(o 0, .inr (2, mFs o th p0 q0 r0 mu zz))]) [0] (by decide) rfl).self⟩) rfl rfl hl.1 rfl (lv_room (Nat.le_of_ble_eq_true rfl)) dX7_determinant_16 ⟨by first | decide | omega, by first | decide | omega⟩) hP hD hS hA [0] [1, 2] rfl rfl (by decide) (by decide) (fun r9 u9 H locs hq hX hz hk hP hD hS => ?_)
    obtain ⟨r_30, rfl⟩ : ∃ z, z = r9 := ⟨_, rfl⟩
    obtain rfl := hq
    have hP : va_P (dC, dI) vwCl [(o 5, .inl (dA 1, 2640, .inr (.inl fA))), (o 6, .inl (dA 1, 32, .inr (.inl fM))), (o 0, .inr (2, mFs o (wmX (p0 + q0 + r0) Ms (rgB t) f) p0 q0 r0 mu zz))] H := hP
    have hD : va_D A [(o 5, .inl (dA 1, 2640, .inr (.inl fA))), (o 6, .inl (dA 1, 32, .inr (.inl fM))), (o 0, .inr (2, mFs o (wmX (p0 + q0 + r0) Ms (rgB t) f) p0 q0 r0 mu zz))] := hD
    subst hQe
    exact W.iret (v := nI 0) hx hb hr (fun tz ht hW => ⟨⟨_, (fA, fM, mu, wmX (p0 + q0 + r0) Ms (rgB t) f), rfl, ModPost.mk0 (c := wmX (p0 + q0 + r0) Ms (rgB t) f) (by unfold detX; rw [if_pos h_w]) (fun k9 hk9 i9 hi9 => rfl), B1_at ht (hP.sub [2, 0, 1] rfl) (hD.sub [2, 0, 1] (by decide) rfl) trivial⟩, hS.F ht⟩) hS.2.2 dX7_determinant_19
