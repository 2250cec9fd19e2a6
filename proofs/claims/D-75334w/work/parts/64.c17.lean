section FX
variable {p q r : Nat} {Ms : Nat → MV}
theorem vc_s : ∀ {st k : Nat}, st < 32 → k < 5 → popc (st % 2 ^ (k + 1)) = popc (st % 2 ^ k) + (st / 2 ^ k &&& 1) := by
  have h : ∀ st, st < 32 → ∀ k, k < 5 → popc (st % 2 ^ (k + 1)) = popc (st % 2 ^ k) + (st / 2 ^ k &&& 1) := by decide +kernel
  exact fun {st k} a b => h st a k b
theorem vc_k {st ii k : Nat} (hst : st < 32) (hii : ii < popc st) (hk : k ≤ 5) (h : popc (st % 2 ^ k) ≤ ii) : k < 5 := by
  apply Decidable.byContradiction
  intro c
  obtain rfl : k = 5 := by omega
  rw [Nat.mod_eq_of_lt (show st < 2 ^ 5 from hst)] at h
  omega
theorem vc_l : ∀ {st k : Nat}, st < 32 → k < 5 → st / 2 ^ k &&& 1 ≠ 0 → lowB (drpN st (popc (st % 2 ^ k))) = 2 ^ k := by
  have h : ∀ st, st < 32 → ∀ k, k < 5 → st / 2 ^ k &&& 1 ≠ 0 → lowB (drpN st (popc (st % 2 ^ k))) = 2 ^ k := by decide +kernel
  exact fun {st k} a b c => h st a k b c
theorem vc_e {st ii k : Nat} (hst : st < 32) (hk : k < 5) (h : ¬ st / 2 ^ k &&& 1 = 0) (hii : popc (st % 2 ^ k) = ii) : k = Nat.log2 (lowB (drpN st ii)) := by
  rw [← hii, vc_l hst hk h, Nat.log2_two_pow]
theorem grt_up {M : MV} {n : Nat} (hM : MSm M) (pM : MSp n M) (hn : 1 ≤ n) : ∀ d, n + d ≤ 32 → grtN M (n + d) = grtN M n
  | 0, _ => rfl
  | d + 1, h => by
    show (if n + d = 0 then 0 else if absL (M (n + d + 1)) ≤ absL (M (grtN M (n + d) + 1)) then grtN M (n + d) else n + d) = _
    have hl := grtN_lt M n hn
    rw [if_neg (by omega), grt_up hM pM hn d (by omega), pM (n + d) (by omega) (by omega), if_pos]
    have hz : absL 0 = lN 0 := by decide
    have hm := ne_min_of (hM.2.2 (grtN M n) (by omega)) (by decide)
    rw [hz, absL_lN hm]
    exact (pk_lLE (by decide) (aN_lt hm)).mpr (Nat.zero_le _)
theorem grt_32 {M : MV} {n : Nat} (hn : n ≤ 5) (hM : MSm M) (pM : MSp (2 ^ n) M) : grtN M 32 = grtN M (2 ^ n) := by
  have h1 := pow5 hn
  have h2 := grt_up hM pM (Nat.two_pow_pos n) (32 - 2 ^ n) (by omega)
  rw [show 2 ^ n + (32 - 2 ^ n) = 32 by omega] at h2
  exact h2
theorem fc_j {st : Nat} {i : Int32} (h : st < 32) (hb : inB i (nI 0) (nI (popc st) - nI 1) = true) : ∃ ji, ji < popc st ∧ i = nI ji := inB_pred (popc_le5 st h) hb
def FK (st ji kf n : Nat) : Prop := lowB (drpN st ji) = 2 ^ kf ∧ kf < n ∧ ¬ (st ^^^ 2 ^ kf) / 2 ^ kf &&& 1 = 1 ∧ (st ^^^ 2 ^ kf) ||| 2 ^ kf = st
theorem fc_k {M : MV} {st ji : Nat} (hn : p + q + r ≤ 5) (sM : MSm M) (pM : MSp (2 ^ (p + q + r)) M) (hst : st = grtN M 32) (hji : ji < popc st) : ∃ kf, kf < 5 ∧ kf < p + q + r ∧ Nat.log2 (lowB (drpN st ji)) = kf ∧ FK st ji kf (p + q + r) := by
  have e := hst.trans (grt_32 hn sM pM)
  have h1 := grtN_lt M (2 ^ (p + q + r)) (Nat.two_pow_pos _)
  have h2 := pow5 hn
  have hl : st < 32 := by omega
  have := popc_le5 st hl
  obtain ⟨k, a, b, c, d, f⟩ := fac_bits st hl ji (by omega) hji
  have hk : k < p + q + r := by
    apply Decidable.byContradiction
    intro hc
    have := Nat.pow_le_pow_right (show 0 < 2 by decide) (show p + q + r ≤ k by omega)
    omega
  exact ⟨k, a, hk, by rw [b, Nat.log2_two_pow], b, hk, c, d⟩
theorem fc_t {M : MV} {st ji kf : Nat} (hf : FK st ji kf (p + q + r)) : tabS (facV M (st ^^^ 2 ^ kf)) (p + q + r) kf = pvS (facV M (st ^^^ 2 ^ kf)) (p + q + r) (2 ^ kf) := by
  rw [pv_at _ _ kf hf.2.1]
  unfold tabS
  rw [if_pos hf.2.1]
theorem fc_u {M : MV} {st ji kf : Nat} (hn : p + q + r ≤ 5) (sM : MSm M) (pM : MSp (2 ^ (p + q + r)) M) (h1 : oneB (p + q + r) M = true) (hst : st = grtN M 32) (hf : FK st ji kf (p + q + r)) : 0 < aN (tabS (facV M (st ^^^ 2 ^ kf)) (p + q + r) kf) := by
  have e := hst.trans (grt_32 hn sM pM)
  have hg := grtN_lt M 32 (by decide)
  rw [← hst] at hg
  have hk := hf.2.1
  rw [fc_t hf]
  exact aN_nz (fac_u (i := ji) hn sM pM h1 e.symm hg (by omega) hf.2.1 hf.2.2.1 hf.2.2.2).2
theorem fc_nm {M : MV} {st k : Nat} (hM : MSm M) (hr : st < 32) (hk : k < 5) : facV M st k ≠ Int64.minValue := ne_min_of (facV_bd hM hr hk) (by decide)
theorem fc_f {M : MV} {st ji kf : Nat} {y : Option MV} (hn : p + q + r ≤ 5) (sM : MSm M) (pM : MSp (2 ^ (p + q + r)) M) (hst : st = grtN M 32) (hf : FK st ji kf (p + q + r)) (h : fitG (tabS (facV M (st ^^^ 2 ^ kf)) (p + q + r) kf) (pvS (tabS (facV M (st ^^^ 2 ^ kf)) (p + q + r)) 5) = y) : facS (p + q + r) M ji = y := by
  rw [fitG_pv, tab_pv hn] at h
  exact fac_spec (hst.trans (grt_32 hn sM pM)).symm hf.1 (fc_t hf).symm h
section FA
variable {t a ji : Nat} {C : MV} {i : Int32}
theorem fc_1 {t a : Int32} (h : (rgB t && rgB a) = false) : facX p q r Ms t a i = (nI 1, none) := by unfold facX; rw [if_pos h]
theorem fc_2 (ht : t < 8) (ha : a < 8) (h : oneB (p + q + r) (Ms a) = false) : facX p q r Ms (nI t) (nI a) i = (nI 2, none) := by
  unfold facX; rw [rg_t ht, rg_t ha, rg_n ha, h]; rfl
theorem fc_3 {st : Nat} (ht : t < 8) (ha : a < 8) (hn : p + q + r ≤ 5) (sM : MSm (Ms a)) (pM : MSp (2 ^ (p + q + r)) (Ms a)) (h1 : oneB (p + q + r) (Ms a) = true) (hst : st = grtN (Ms a) 32) (h : inB i (nI 0) (nI (popc st) - nI 1) = false) : facX p q r Ms (nI t) (nI a) i = (nI 3, none) := by
  rw [hst.trans (grt_32 hn sM pM)] at h
  unfold facX; rw [rg_t ht, rg_t ha, rg_n ha, h1, h]; rfl
theorem fc_o {st : Nat} {y : Option MV} (ht : t < 8) (ha : a < 8) (hn : p + q + r ≤ 5) (sM : MSm (Ms a)) (pM : MSp (2 ^ (p + q + r)) (Ms a)) (h1 : oneB (p + q + r) (Ms a) = true) (hst : st = grtN (Ms a) 32) (hji : ji < popc st) (hf : facS (p + q + r) (Ms a) ji = y) : facX p q r Ms (nI t) (nI a) (nI ji) = optC (nI 4) y := by
  have hg := grtN_lt (Ms a) 32 (by decide)
  rw [← hst] at hg
  have h5 := popc_le5 st hg
  have hb : inB (nI ji) (nI 0) (nI (popc st) - nI 1) = true := by
    rw [pk_sub (by omega)]; unfold inB
    rw [decide_eq_true ((nI_leI (by omega) (by omega)).mpr (Nat.zero_le _)), decide_eq_true ((nI_leI (by omega) (by omega)).mpr (show ji ≤ popc st - 1 by omega))]; rfl
  rw [hst.trans (grt_32 hn sM pM)] at hb
  unfold facX; rw [rg_t ht, rg_t ha, rg_n ha, h1, hb, clp (by omega), hf]; rfl
end FA
/-! points -/
variable {x y z d : Int32}
theorem cz_n (h : cfB p q r = false) : czN x y z (pk0 p q r) (3 - pk0 p q r) = true := by
  have e : pk0 p q r = 3 := by unfold pk0; rw [h]; rfl
  rw [e]; rfl
theorem cz_c (h : cfB p q r = true) : czN x y z (pk0 p q r) (3 - pk0 p q r) = ((decide (1 < p - 1) || decide (y = nI 0)) && (decide (2 < p - 1) || decide (z = nI 0))) := by
  obtain ⟨hq, hr, h2, h4⟩ := cf_p h
  have e : pk0 p q r = p - 1 := by unfold pk0; rw [h]; rfl
  rw [e]
  rcases (show p = 2 ∨ p = 3 ∨ p = 4 by omega) with rfl | rfl | rfl
  · show ((true && decide (y = nI 0)) && decide (z = nI 0)) = ((false || decide (y = nI 0)) && (false || decide (z = nI 0)))
    rw [Bool.true_and, Bool.false_or, Bool.false_or]
  · show (true && decide (z = nI 0)) = ((true || decide (y = nI 0)) && (false || decide (z = nI 0)))
    rw [Bool.true_or, Bool.false_or]
  · rfl
theorem pt_of (h : (coB x && coB y && coB z && inB d (nI 1) (nI 100)) = true) : coB x = true ∧ coB y = true ∧ coB z = true ∧ inB d (nI 1) (nI 100) = true := by
  simp only [Bool.and_eq_true] at h
  exact ⟨h.1.1.1, h.1.1.2, h.1.2, h.2⟩
theorem pt_yz2 (h : ((decide (1 < 2 - 1) || decide (y = nI 0)) && (decide (2 < 2 - 1) || decide (z = nI 0))) = true) : y = nI 0 ∧ z = nI 0 := by
  simp only [Bool.and_eq_true, Bool.or_eq_true, decide_eq_true_iff] at h
  exact ⟨h.1.resolve_left (by decide), h.2.resolve_left (by decide)⟩
theorem pt_yz3 (h : ((decide (1 < 3 - 1) || decide (y = nI 0)) && (decide (2 < 3 - 1) || decide (z = nI 0))) = true) : z = nI 0 := by
  simp only [Bool.and_eq_true, Bool.or_eq_true, decide_eq_true_iff] at h
  exact h.2.resolve_left (by decide)
theorem pt_yz4 (_h : ((decide (1 < 4 - 1) || decide (y = nI 0)) && (decide (2 < 4 - 1) || decide (z = nI 0))) = true) : True := trivial
theorem pn_d (h : inB d (nI 1) (nI 100) = true) : 0 < (d.toInt64 * d.toInt64).toInt := by
  unfold inB at h
  rw [Bool.and_eq_true, decide_eq_true_iff, decide_eq_true_iff, Int32.le_iff_toInt_le, Int32.le_iff_toInt_le, nI_toInt (by decide), nI_toInt (by decide)] at h
  exact pt_mu (by rw [i2l_toInt]; omega)
theorem pt_u (h : inB d (nI 1) (nI 100) = true) : 0 < aN (d.toInt64 * d.toInt64) ∧ d.toInt64 * d.toInt64 ≠ Int64.minValue := ⟨aN_pos (pn_d h), nm_p (pn_d h)⟩
abbrev sq3 (x y z : Int32) : Int64 := x.toInt64 * x.toInt64 + y.toInt64 * y.toInt64 + z.toInt64 * z.toInt64
theorem pt_pv {v : Nat → Int64} (h4 : 2 ≤ p ∧ p ≤ 4) (h0 : ∀ k, k < p - 1 → v k = ptV x y z d k) (h1 : v (p - 1) = ptQ x y z (p - 1) - d.toInt64 * d.toInt64) (h2 : v p = ptQ x y z (p - 1) + d.toInt64 * d.toInt64) (h3 : ∀ k, p + 1 ≤ k → k < 5 → v k = 0) : pvS v 5 = ptR p x y z d := by
  rw [pv_grow (n := p + 1) (by omega) h3]
  obtain ⟨m, rfl⟩ : ∃ m, p = m + 1 := ⟨p - 1, by omega⟩
  show vp_updL (vp_updL (pvS v m) (2 ^ m) (v m)) (2 ^ (m + 1)) (v (m + 1)) = _
  rw [h2, show v m = _ from h1, show pvS v m = pvS (ptV x y z d) m from pv_ext h0]; rfl
theorem pt_v2 (h : y = nI 0 ∧ z = nI 0) : pvS (vp_updL (vp_updL (vp_updL (fun _ => 0) 0 (2 * x.toInt64 * d.toInt64)) 1 (sq3 x y z - d.toInt64 * d.toInt64)) 2 (sq3 x y z + d.toInt64 * d.toInt64)) 5 = ptR 2 x y z d := by
  obtain ⟨rfl, rfl⟩ := h
  have e : sq3 x (nI 0) (nI 0) = ptQ x (nI 0) (nI 0) 1 := by
    show _ = 0 + _
    unfold sq3
    rw [show (nI 0).toInt64 = 0 from rfl, Int64.zero_mul, Int64.add_zero, Int64.add_zero, Int64.zero_add]; rfl
  rw [e]
  refine pt_pv (by decide) (fun k hk => ?_) rfl rfl (fun k a b => ?_)
  · obtain rfl : k = 0 := by omega
    rfl
  · rcases (show k = 3 ∨ k = 4 by omega) with rfl | rfl <;> rfl
theorem pt_v3 (h : z = nI 0) : pvS (vp_updL (vp_updL (vp_updL (vp_updL (fun _ => 0) 0 (2 * x.toInt64 * d.toInt64)) 1 (2 * y.toInt64 * d.toInt64)) 2 (sq3 x y z - d.toInt64 * d.toInt64)) 3 (sq3 x y z + d.toInt64 * d.toInt64)) 5 = ptR 3 x y z d := by
  subst h
  have e : sq3 x y (nI 0) = ptQ x y (nI 0) 2 := by
    show _ = 0 + _ + _
    unfold sq3
    rw [show (nI 0).toInt64 = 0 from rfl, Int64.zero_mul, Int64.add_zero, Int64.zero_add]; rfl
  rw [e]
  refine pt_pv (by decide) (fun k hk => ?_) rfl rfl (fun k a b => ?_)
  · rcases (show k = 0 ∨ k = 1 by omega) with rfl | rfl <;> rfl
  · obtain rfl : k = 4 := by omega
    rfl
theorem pt_v4 (_h : True) : pvS (vp_updL (vp_updL (vp_updL (vp_updL (vp_updL (fun _ => 0) 0 (2 * x.toInt64 * d.toInt64)) 1 (2 * y.toInt64 * d.toInt64)) 2 (2 * z.toInt64 * d.toInt64)) 3 (sq3 x y z - d.toInt64 * d.toInt64)) 4 (sq3 x y z + d.toInt64 * d.toInt64)) 5 = ptR 4 x y z d := by
  have e : sq3 x y z = ptQ x y z 3 := by
    show _ = 0 + _ + _ + _
    unfold sq3
    rw [Int64.zero_add]; rfl
  rw [e]
  refine pt_pv (by decide) (fun k hk => ?_) rfl rfl (fun k a b => ?_)
  · rcases (show k = 0 ∨ k = 1 ∨ k = 2 by omega) with rfl | rfl | rfl <;> rfl
  · omega
theorem pt_nm {v : Nat → Int64} (hc : p ≤ 4) (h : pvS v 5 = ptR p x y z d) (hB : ptB p q r x y z d = true) : ∀ k, k < 5 → v k ≠ Int64.minValue := fun k hk => by
  rw [← pv_at v 5 k hk, h]
  exact ptR_nm hB (by omega) _
theorem pt_f {v : Nat → Int64} {w : Option MV} (h : pvS v 5 = ptR p x y z d) (hd : inB d (nI 1) (nI 100) = true) (e : fitG (d.toInt64 * d.toInt64) (pvS v 5) = w) : fitS (d.toInt64 * d.toInt64) (ptR p x y z d) = w := by
  rw [fitG_pos (pn_d hd), h] at e
  exact e
section PT
variable {t : Nat} {C : MV}
theorem pt_1 {t : Int32} (h : rgB t = false) : ptX p q r t x y z d = (nI 1, none) := by unfold ptX; rw [if_pos h]
theorem pt_2 (ht : t < 8) (h : ptB p q r x y z d = false) : ptX p q r (nI t) x y z d = (nI 2, none) := by unfold ptX; rw [rg_t ht, h]; rfl
theorem pt_3 (ht : t < 8) (h : ptB p q r x y z d = true) (hc : cfB p q r = false) : ptX p q r (nI t) x y z d = (nI 3, none) := by unfold ptX; rw [rg_t ht, h, hc]; rfl
theorem pt_o {w : Option MV} (ht : t < 8) (h : ptB p q r x y z d = true) (hc : cfB p q r = true) (e : fitS (d.toInt64 * d.toInt64) (ptR p x y z d) = w) : ptX p q r (nI t) x y z d = optC (nI 4) w := by unfold ptX; rw [rg_t ht, h, hc, e]; rfl
end PT
end FX
set_option maxHeartbeats 4000000 in
theorem x1_leading {l : Launch} {dC : Nat → ClassId} {dI : Nat → Nat → Nat} {dA : Nat → ClassId} {s0 : State} {b0 : Addr} (Z : Z0 l dC dI dA s0 b0) {σ : Nat → Nat} (Y : SS (dC, dI) dA σ s0) (ma mr : Nat) (M : MV) : Met l yX1_leading (ws_ yX1_leading cX1_leading 3 (some .int)) ({ frames := 2, cells := 0, slots := 0, locals := 120 } : Room) (gP [.ref ma] s0 (fun _ => False) (fun H => va_P (dC, dI) vwCl [(ma, .inr (0, [.ref mr, .long (M 0)])), (mr, .inl (dA 1, 32, .inr (.inl (fun j => M (j + 1)))))] H)) (vp_Si (fun r => r = nI (grtN M 32))) 0 0 (fun _ => False) := by
  refine Met.ofW (cc := cX1_leading) (maxL := 3) (ret := (some .int)) (by decide) rfl ?_
  intro p e s m args below meth c s₁ B hml hv
  obtain ⟨hav, hG, hP⟩ := hv
  have hx := B.exec
  have hb := B.bytes
  have hr := B.returns
  have hts := atoms_spec (ws := (ws_ yX1_leading cX1_leading 3 (some .int))) B.pre
  have hts : ∀ w ∈ lw_all, w.before _ s = true := fun w h => hts w (List.mem_cons_of_mem _ h)
  have hown : s.vm.findClass RX1 = some m.cls := findClass_of_methodNamed B.named
  have hlocks := B.notSynchronized
  have hK := hG.K Z
  have hS : va_S (fun _ => False) s.heap s.heap [] := va_S.rf
  have hl := lv_entry ([.ref ma]) (n := 3) (Nat.le_of_ble_eq_true rfl)
  rw [show entryFrame m args 3 = entryFrame m ([.ref ma] : List Value).toArray 3 from by rw [hav], lg_entry_eq]
  generalize (lg_sl ([.ref ma]) ++ List.replicate (3 - (lg_sl ([.ref ma])).length) Slot.unset).toArray = ls at hl ⊢
  have hl : lv_has ls 3 [(0, .ref ma)] := hl
  generalize hQe : MQ below _ _ s _ _ _ = Q
  change W p l e ({ frames := 2, cells := 0, slots := 0, locals := 120 } : Room) s m args below meth c s.heap [] 0 0 Q (F0 m 0 ls [])
  refine lv_iconst (v := nI 0) hx hb dX1_leading_0 (by decide) ?_
  refine lv_istore_n (lv' := [(1, .int (nI 0)), (0, .ref ma)]) hx hb dX1_leading_1 rfl hl (by decide) rfl (fun ls hl => ?_)
  refine lv_iconst (v := nI 1) hx hb dX1_leading_2 (by decide) ?_
  refine lv_istore_n (lv' := [(2, .int (nI 1)), (1, .int (nI 0)), (0, .ref ma)]) hx hb dX1_leading_3 rfl hl (by decide) rfl (fun ls hl => ?_)
  have hl : lv_has ls 3 [(2, .int (nI 1)), (1, .int (nI (grtN M 1))), (0, .ref ma)] := by rw [show nI (grtN M 1) = nI 0 from rfl]; exact hl
  have loop_1 : ∀ (n9_1 : Nat) (k : Nat) (ls : Array Slot), 33 - k < n9_1 → (1 ≤ k) → (k ≤ 32) → lv_has ls 3 [(0, .ref ma), (1, .int (nI (grtN M k))), (2, .int (nI k))] → W p l e ({ frames := 2, cells := 0, slots := 0, locals := 120 } : Room) s m args below meth c s.heap [] 0 0 Q (F0 m 4 ls []) := by
    intro n9_1
    induction n9_1 with
    | zero => intro k ls hm_1; exact absurd hm_1 (Nat.not_lt_zero _)
    | succ n9_1 ih_1 =>
      intro k ls hm_1 hk1 hk9 hl
      have hlt9 := grtN_lt M k (by omega)
      refine lv_iload_n hx hb dX1_leading_4 rfl (lv_at hl 2 rfl) ?_
      refine lv_bipush (v := nI 32) hx hb dX1_leading_5 (by decide) ?_
      refine lv_icmp_ge (tgt := 44) hx hb dX1_leading_7 (by decide) (fun c_7 => ?_) (fun c_7 => ?_)
      · have c_7 : 32 ≤ k := (nI_leI (a := 32) (b := k) (by omega) (by omega)).mp c_7
        obtain rfl : k = 32 := by omega
        refine lv_iload_n hx hb dX1_leading_44 rfl (lv_at hl 1 rfl) ?_
        subst hQe
        exact W.iret (v := nI (grtN M 32)) hx hb hr (fun tz ht hW => ⟨_, rfl, rfl, ht⟩) hS.2.2 dX1_leading_45
      · have c_7 : ¬ 32 ≤ k := fun h => c_7 ((nI_leI (a := 32) (b := k) (by omega) (by omega)).mpr h)
        refine lv_aload_n hx hb dX1_leading_10 rfl (lv_at hl 0 rfl) ?_
        refine va_getN (D := (dC, dI)) (ci := 0) (v := .ref mr) (C := RX6) (T := TX6) (N := 2) hx hb hts in_X6 hown hK hP 0 rfl rfl 0 (by decide) (((va_Nw.warmF hG.1 (va_Nw.of rfl (Z.2.1 _ q552)))).use rfl) (fun _ h9 => h9) rfl dX1_leading_11 ?_
        refine lv_iload_n hx hb dX1_leading_14 rfl (lv_at hl 2 rfl) ?_
        refine a_lald hx hb hK hP 1 1 rfl rfl (by omega) (by omega) dX1_leading_15 ?_
        refine e_l (y := M (k + 1)) (rfl) ?_
        refine va_mabs_long hx hb (hml.trans hl.1.symm) hown (hts _ q516) (hts _ q517) (hts _ q115) (hts _ q518) (by decide) (Nat.le_of_ble_eq_true rfl) (by first | decide | omega) (by first | decide | omega) dX1_leading_16 ?_
        refine e_l (y := absL (M (k + 1))) (abs_if _) ?_
        refine lv_aload_n hx hb dX1_leading_19 rfl (lv_at hl 0 rfl) ?_
        refine va_getN (D := (dC, dI)) (ci := 0) (v := .ref mr) (C := RX6) (T := TX6) (N := 2) hx hb hts in_X6 hown hK hP 0 rfl rfl 0 (by decide) (((va_Nw.warmF hG.1 (va_Nw.of rfl (Z.2.1 _ q552)))).use rfl) (fun _ h9 => h9) rfl dX1_leading_20 ?_
        refine lv_iload_n hx hb dX1_leading_23 rfl (lv_at hl 1 rfl) ?_
        refine a_lald hx hb hK hP 1 1 rfl rfl (by omega) (by omega) dX1_leading_24 ?_
        refine e_l (y := M (grtN M k + 1)) (rfl) ?_
        refine va_mabs_long hx hb (hml.trans hl.1.symm) hown (hts _ q516) (hts _ q517) (hts _ q115) (hts _ q518) (by decide) (Nat.le_of_ble_eq_true rfl) (by first | decide | omega) (by first | decide | omega) dX1_leading_25 ?_
        refine e_l (y := absL (M (grtN M k + 1))) (abs_if _) ?_
        refine W.lcmp hx hb dX1_leading_28 ?_
        refine lv_if_le (tgt := 36) hx hb dX1_leading_29 (by decide) (fun c_29 => ?_) (fun c_29 => ?_)
        · have c_29 : (absL (M (k + 1))) ≤ (absL (M (grtN M k + 1))) := (lg_cmp_le _ _).mp c_29
          refine lv_iload_n hx hb dX1_leading_36 rfl (lv_at hl 1 rfl) ?_
          refine e_i (y := nI (grtN M (k + 1))) (n_eq (by show _ = if k = 0 then 0 else if absL (M (k + 1)) ≤ absL (M (grtN M k + 1)) then grtN M k else k; rw [if_neg (by omega), if_pos c_29])) ?_
          refine lv_istore_n (lv' := [(1, .int (nI (grtN M (k + 1)))), (0, .ref ma), (2, .int (nI k))]) hx hb dX1_leading_37 rfl hl (by decide) rfl (fun ls hl => ?_)
          refine lv_iinc (v := nI (k + 1)) (lv' := [(2, .int (nI (k + 1))), (1, .int (nI (grtN M (k + 1)))), (0, .ref ma)]) hx hb dX1_leading_38 hl (k := 2) rfl (by exact nI_add _ 1) (by decide) rfl (fun ls hl => ?_)
          refine lv_goto (tgt := 4) hx hb dX1_leading_41 (by decide) ?_
          exact ih_1 (k + 1) ls (by omega) (by omega) (by omega) (lv_sub hl [2, 1, 0] rfl)
        · have c_29 : ¬ (absL (M (k + 1))) ≤ (absL (M (grtN M k + 1))) := fun h => c_29 ((lg_cmp_le _ _).mpr h)
          refine lv_iload_n hx hb dX1_leading_32 rfl (lv_at hl 2 rfl) ?_
          refine lv_goto (tgt := 37) hx hb dX1_leading_33 (by decide) ?_
          refine e_i (y := nI (grtN M (k + 1))) (n_eq (by show _ = if k = 0 then 0 else if absL (M (k + 1)) ≤ absL (M (grtN M k + 1)) then grtN M k else k; rw [if_neg (by omega), if_neg c_29])) ?_
          refine lv_istore_n (lv' := [(1, .int (nI (grtN M (k + 1)))), (0, .ref ma), (2, .int (nI k))]) hx hb dX1_leading_37 rfl hl (by decide) rfl (fun ls hl => ?_)
          refine lv_iinc (v := nI (k + 1)) (lv' := [(2, .int (nI (k + 1))), (1, .int (nI (grtN M (k + 1)))), (0, .ref ma)]) hx hb dX1_leading_38 hl (k := 2) rfl (by exact nI_add _ 1) (by decide) rfl (fun ls hl => ?_)
          refine lv_goto (tgt := 4) hx hb dX1_leading_41 (by decide) ?_
          exact ih_1 (k + 1) ls (by omega) (by omega) (by omega) (lv_sub hl [2, 1, 0] rfl)
  exact loop_1 _ 1 ls (Nat.lt_succ_self _) (by decide) (by decide) (lv_sub hl [2, 1, 0] rfl)
set_option maxHeartbeats 4000000 in
theorem x1_vectorOf {l : Launch} {dC : Nat → ClassId} {dI : Nat → Nat → Nat} {dA : Nat → ClassId} {s0 : State} {b0 : Addr} (Z : Z0 l dC dI dA s0 b0) {σ : Nat → Nat} (Y : SS (dC, dI) dA σ s0) (st ii : Nat) (hst : st < 32) (hii : ii < popc st) : Met l yX1_vectorOf (ws_ yX1_vectorOf cX1_vectorOf 4 (some .int)) ({ frames := 1, cells := 0, slots := 0, locals := 60 } : Room) (gP [.int (nI st), .int (nI ii)] s0 (fun _ => False) (fun H => True)) (vp_Si (fun r => r = nI (Nat.log2 (lowB (drpN st ii))))) 0 0 (fun _ => False) := by
  refine Met.ofW (cc := cX1_vectorOf) (maxL := 4) (ret := (some .int)) (by decide) rfl ?_
  intro p e s m args below meth c s₁ B hml hv
  obtain ⟨hav, hG, hno⟩ := hv
  have hx := B.exec
  have hb := B.bytes
  have hr := B.returns
  have hts := atoms_spec (ws := (ws_ yX1_vectorOf cX1_vectorOf 4 (some .int))) B.pre
  have hts : ∀ w ∈ lw_all, w.before _ s = true := fun w h => hts w (List.mem_cons_of_mem _ h)
  have hown : s.vm.findClass RX1 = some m.cls := findClass_of_methodNamed B.named
  have hlocks := B.notSynchronized
  have hK := hG.K Z
  have hS : va_S (fun _ => False) s.heap s.heap [] := va_S.rf
  have hP : va_P (dC, dI) vwCl [] s.heap := fun k q h => by simp at h
  have hD : va_D (fun _ => False) [] := ⟨fun i j p q h => by simp at h, fun k q h => by simp at h⟩
  have hl := lv_entry ([.int (nI st), .int (nI ii)]) (n := 4) (Nat.le_of_ble_eq_true rfl)
  rw [show entryFrame m args 4 = entryFrame m ([.int (nI st), .int (nI ii)] : List Value).toArray 4 from by rw [hav], lg_entry_eq]
  generalize (lg_sl ([.int (nI st), .int (nI ii)]) ++ List.replicate (4 - (lg_sl ([.int (nI st), .int (nI ii)])).length) Slot.unset).toArray = ls at hl ⊢
  have hl : lv_has ls 4 [(0, .int (nI st)), (1, .int (nI ii))] := hl
  generalize hQe : MQ below _ _ s _ _ _ = Q
  change W p l e ({ frames := 1, cells := 0, slots := 0, locals := 60 } : Room) s m args below meth c s.heap [] 0 0 Q (F0 m 0 ls [])
  refine lv_iconst (v := nI 0) hx hb dX1_vectorOf_0 (by decide) ?_
  refine lv_istore_n (lv' := [(2, .int (nI 0)), (0, .int (nI st)), (1, .int (nI ii))]) hx hb dX1_vectorOf_1 rfl hl (by decide) rfl (fun ls hl => ?_)
  refine lv_iload_n hx hb dX1_vectorOf_2 rfl (lv_at hl 2 rfl) ?_
  refine lv_istore_n (lv' := [(3, .int (nI ii)), (2, .int (nI 0)), (0, .int (nI st)), (1, .int (nI ii))]) hx hb dX1_vectorOf_3 rfl hl (by decide) rfl (fun ls hl => ?_)
  have hl : lv_has ls 4 [(3, .int (nI (ii - popc (st % 2 ^ 0)))), (2, .int (nI 0)), (0, .int (nI st)), (1, .int (nI ii))] := by rw [show nI (ii - popc (st % 2 ^ 0)) = nI ii from (by rw [Nat.pow_zero, Nat.mod_one]; rfl)]; exact hl
  have loop_1 : ∀ (n9_1 : Nat) (k : Nat) (ls : Array Slot), 6 - k < n9_1 → (k ≤ 5) → (popc (st % 2 ^ k) ≤ ii) → lv_has ls 4 [(0, .int (nI st)), (1, .int (nI ii)), (2, .int (nI k)), (3, .int (nI (ii - popc (st % 2 ^ k))))] → W p l e ({ frames := 1, cells := 0, slots := 0, locals := 60 } : Room) s m args below meth c s.heap [] 0 0 Q (F0 m 4 ls []) := by
    intro n9_1
    induction n9_1 with
    | zero => intro k ls hm_1; exact absurd hm_1 (Nat.not_lt_zero _)
    | succ n9_1 ih_1 =>
      intro k ls hm_1 hk9 hpk hl
      have hst5 := popc_le5 st hst
      have hk4 : k < 5 := vc_k hst hii hk9 hpk
      have hps := vc_s hst hk4
      have hbt : st / 2 ^ k &&& 1 ≤ 1 := Nat.and_le_right
      refine lv_iload_n hx hb dX1_vectorOf_4 rfl (lv_at hl 0 rfl) ?_
      refine lv_iload_n hx hb dX1_vectorOf_5 rfl (lv_at hl 2 rfl) ?_
      refine lv_ishr hx hb dX1_vectorOf_6 ?_
      refine e_i (y := nI (st / 2 ^ k)) (n_shr (by omega) (by omega)) ?_
      refine lv_iconst (v := nI 1) hx hb dX1_vectorOf_7 (by decide) ?_
      refine lv_iand hx hb dX1_vectorOf_8 ?_
      refine e_i (y := nI ((st / 2 ^ k) &&& 1)) (n_and _ _) ?_
      refine lv_if_eq (tgt := 16) hx hb dX1_vectorOf_9 (by decide) (fun c_9 => ?_) (fun c_9 => ?_)
      · have c_9 : ((st / 2 ^ k) &&& 1) = 0 := (nI_eq (a := ((st / 2 ^ k) &&& 1)) (b := 0) (Nat.lt_of_le_of_lt Nat.and_le_right (by decide)) (by omega)).mp c_9
        have hpk1 : popc (st % 2 ^ (k + 1)) ≤ ii := by omega
        refine lv_iload_n hx hb dX1_vectorOf_16 rfl (lv_at hl 3 rfl) ?_
        refine lv_iload_n hx hb dX1_vectorOf_17 rfl (lv_at hl 0 rfl) ?_
        refine lv_iload_n hx hb dX1_vectorOf_18 rfl (lv_at hl 2 rfl) ?_
        refine lv_ishr hx hb dX1_vectorOf_19 ?_
        refine e_i (y := nI (st / 2 ^ k)) (n_shr (by omega) (by omega)) ?_
        refine lv_iconst (v := nI 1) hx hb dX1_vectorOf_20 (by decide) ?_
        refine lv_iand hx hb dX1_vectorOf_21 ?_
        refine e_i (y := nI ((st / 2 ^ k) &&& 1)) (n_and _ _) ?_
        refine lv_isub hx hb dX1_vectorOf_22 ?_
        refine e_i (y := nI (ii - popc (st % 2 ^ (k + 1)))) ((pk_sub (by omega)).trans (n_eq (by omega))) ?_
        refine lv_istore_n (lv' := [(3, .int (nI (ii - popc (st % 2 ^ (k + 1))))), (0, .int (nI st)), (1, .int (nI ii)), (2, .int (nI k))]) hx hb dX1_vectorOf_23 rfl hl (by decide) rfl (fun ls hl => ?_)
        refine lv_iinc (v := nI (k + 1)) (lv' := [(2, .int (nI (k + 1))), (3, .int (nI (ii - popc (st % 2 ^ (k + 1))))), (0, .int (nI st)), (1, .int (nI ii))]) hx hb dX1_vectorOf_24 hl (k := 3) rfl (by exact nI_add _ 1) (by decide) rfl (fun ls hl => ?_)
        refine lv_goto (tgt := 4) hx hb dX1_vectorOf_27 (by decide) ?_
        exact ih_1 (k + 1) ls (by omega) (by omega) hpk1 (lv_sub hl [2, 3, 0, 1] rfl)
      · have c_9 : ¬ ((st / 2 ^ k) &&& 1) = 0 := fun h => c_9 ((nI_eq (a := ((st / 2 ^ k) &&& 1)) (b := 0) (Nat.lt_of_le_of_lt Nat.and_le_right (by decide)) (by omega)).mpr h)
        refine lv_iload_n hx hb dX1_vectorOf_12 rfl (lv_at hl 3 rfl) ?_
        refine lv_if_le (tgt := 30) hx hb dX1_vectorOf_13 (by decide) (fun c_13 => ?_) (fun c_13 => ?_)
        · have c_13 : (ii - popc (st % 2 ^ k)) ≤ 0 := (nI_leI (a := (ii - popc (st % 2 ^ k))) (b := 0) (by omega) (by omega)).mp c_13
          refine lv_iload_n hx hb dX1_vectorOf_30 rfl (lv_at hl 2 rfl) ?_
          subst hQe
          exact W.iret (v := nI k) hx hb hr (fun tz ht hW => ⟨_, rfl, (n_eq (vc_e hst hk4 c_9 (by omega))), ht⟩) hS.2.2 dX1_vectorOf_31
        · have c_13 : ¬ (ii - popc (st % 2 ^ k)) ≤ 0 := fun h => c_13 ((nI_leI (a := (ii - popc (st % 2 ^ k))) (b := 0) (by omega) (by omega)).mpr h)
          have hpk1 : popc (st % 2 ^ (k + 1)) ≤ ii := by omega
          refine lv_iload_n hx hb dX1_vectorOf_16 rfl (lv_at hl 3 rfl) ?_
          refine lv_iload_n hx hb dX1_vectorOf_17 rfl (lv_at hl 0 rfl) ?_
          refine lv_iload_n hx hb dX1_vectorOf_18 rfl (lv_at hl 2 rfl) ?_
          refine lv_ishr hx hb dX1_vectorOf_19 ?_
          refine e_i (y := nI (st / 2 ^ k)) (n_shr (by omega) (by omega)) ?_
          refine lv_iconst (v := nI 1) hx hb dX1_vectorOf_20 (by decide) ?_
          refine lv_iand hx hb dX1_vectorOf_21 ?_
          refine e_i (y := nI ((st / 2 ^ k) &&& 1)) (n_and _ _) ?_
          refine lv_isub hx hb dX1_vectorOf_22 ?_
          refine e_i (y := nI (ii - popc (st % 2 ^ (k + 1)))) ((pk_sub (by omega)).trans (n_eq (by omega))) ?_
          refine lv_istore_n (lv' := [(3, .int (nI (ii - popc (st % 2 ^ (k + 1))))), (0, .int (nI st)), (1, .int (nI ii)), (2, .int (nI k))]) hx hb dX1_vectorOf_23 rfl hl (by decide) rfl (fun ls hl => ?_)
          refine lv_iinc (v := nI (k + 1)) (lv' := [(2, .int (nI (k + 1))), (3, .int (nI (ii - popc (st % 2 ^ (k + 1))))), (0, .int (nI st)), (1, .int (nI ii))]) hx hb dX1_vectorOf_24 hl (k := 3) rfl (by exact nI_add _ 1) (by decide) rfl (fun ls hl => ?_)
          refine lv_goto (tgt := 4) hx hb dX1_vectorOf_27 (by decide) ?_
          exact ih_1 (k + 1) ls (by omega) (by omega) hpk1 (lv_sub hl [2, 3, 0, 1] rfl)
  exact loop_1 _ 0 ls (Nat.lt_succ_self _) (by decide) (by rw [Nat.pow_zero, Nat.mod_one]; exact Nat.zero_le _) (lv_sub hl [2, 3, 1, 0] rfl)
set_option maxHeartbeats 4000000 in
theorem x1_factor {l : Launch} {dC : Nat → ClassId} {dI : Nat → Nat → Nat} {dA : Nat → ClassId} {s0 : State} {b0 : Addr} (Z : Z0 l dC dI dA s0 b0) (A : Nat → Prop) (sz : Nat) (hA : ∀ q : Nat, sz ≤ q → A q) {σ : Nat → Nat} (Y : SS (dC, dI) dA σ s0) (xa : Nat → Nat) (tl : Nat) (ec ep : Int32) (ga sg : Nat) (sr : Nat → Nat) (p0 q0 r0 : Nat) (rm rr : Nat → Nat) (Ms : Nat → MV) (t a i9 : Int32) (sR : ∀ k, k < 8 → MSm (Ms k)) (pR : ∀ k, k < 8 → MSp (2 ^ (p0 + q0 + r0)) (Ms k)) (hAf : ∀ q, A q → q = xa 7 ∨ sz ≤ q) : vx_Met l yX1_factor (wsW_ yX1_factor cX1_factor 9 (some .int) [((94 : Nat), (109 : Nat), (110 : Nat), (179 : Nat))]) ({ frames := 9, cells := 50, slots := 400, locals := 540 } : Room) (gP [.ref (xa 0), .int t, .int a, .int i9] s0 A (fun H => H.size = sz ∧ va_P (dC, dI) vwCl [((xa 7), .inl (dA 4, 8, .inr (.inr (.inr (.inr (fun k => some (rm k)))))))] H ∧ va_D A [((xa 7), .inl (dA 4, 8, .inr (.inr (.inr (.inr (fun k => some (rm k)))))))] ∧ RO A (dC, dI) [((xa 0), .inr (3, xFs xa tl ec ep)), ((xa 3), .inr (4, [.ref ga, .ref (xa 7)]))] H ∧ AG A (dC, dI) dA ga sg sr p0 q0 r0 H ∧ RG A (dC, dI) dA rm rr Ms H)) (va_Qi (S := Nat × Nat × MV) (fun r9 u => facX p0 q0 r0 Ms t a i9 = (nI 0, some u.2.2) ∧ r9 = nI (trmS u.2.2)) (B1 (dC, dI) A (fun u => [(xa 7, .inl (dA 4, 8, .inr (.inr (.inr (.inr (va_up (fun k => some (rm k)) (rg t) (some u.1)))))))]) (fun u H => NM (dC, dI) dA σ rm rr Ms sz u H)) A) (vx_X (S := Unit) (fun _ => True) (fun _ E _ t9 => ((E = "java/lang/IndexOutOfBoundsException" ∧ facX p0 q0 r0 Ms t a i9 = (nI 1, none)) ∨ (E = "java/lang/IllegalStateException" ∧ facX p0 q0 r0 Ms t a i9 = (nI 2, none)) ∨ (E = "java/lang/IllegalArgumentException" ∧ facX p0 q0 r0 Ms t a i9 = (nI 3, none)) ∨ (E = "java/lang/ArithmeticException" ∧ facX p0 q0 r0 Ms t a i9 = (nI 4, none))) ∧ va_P (dC, dI) vwCl [((xa 7), .inl (dA 4, 8, .inr (.inr (.inr (.inr (fun k => some (rm k)))))))] t9.heap) A) 50 400 A := by
  refine vx_ofWH (cc := cX1_factor) (maxL := 9) (ret := (some .int)) (by decide) rfl ?_
  intro p e s m args below meth c s₁ B hml hv
  obtain ⟨hav, hG, hsz, hP, hD, hR0, hAG, hRG⟩ := hv
  have hx := B.exec
  have hb := B.bytes
  have hr := B.returns
  have hts := atoms_spec (ws := (wsW_ yX1_factor cX1_factor 9 (some .int) [((94 : Nat), (109 : Nat), (110 : Nat), (179 : Nat))])) B.pre
  have hxt : c.exceptionTable.toList = [⟨94, 109, 110, 179⟩] := vx_table (x := yX1_factor) (y := yX1_factor) B (hts _ List.mem_cons_self)
  have hts : ∀ w ∈ lw_all, w.before _ s = true := fun w h => hts w (List.mem_cons_of_mem _ h)
  have hown : s.vm.findClass RX1 = some m.cls := findClass_of_methodNamed B.named
  have hlocks := B.notSynchronized
  have hK := hG.K Z
  subst hsz
  have hS : va_S A s.heap s.heap [] := va_S.rf
  have hl := lv_entry ([.ref (xa 0), .int t, .int a, .int i9]) (n := 9) (Nat.le_of_ble_eq_true rfl)
  rw [show entryFrame m args 9 = entryFrame m ([.ref (xa 0), .int t, .int a, .int i9] : List Value).toArray 9 from by rw [hav], lg_entry_eq]
  generalize (lg_sl ([.ref (xa 0), .int t, .int a, .int i9]) ++ List.replicate (9 - (lg_sl ([.ref (xa 0), .int t, .int a, .int i9])).length) Slot.unset).toArray = ls at hl ⊢
  have hl : lv_has ls 9 [(0, .ref (xa 0)), (1, .int t), (2, .int a), (3, .int i9)] := hl
  generalize hQe : vx_MQ below _ _ _ s _ _ _ = Q
  change W p l e ({ frames := 9, cells := 50, slots := 400, locals := 540 } : Room) s m args below meth c s.heap [] 0 0 Q (F0 m 0 ls [])
  have hn := hAG.1
  have h5 := pow5 hn
  have hR1 := hAG.2.1
  obtain ⟨gr, Yg⟩ : ∃ g, SG (dC, dI) dA g s0 := ⟨_, SS.gr Y⟩
  have hR2 := hG.RO Yg.2
  refine lv_iconst (v := nI 2) hx hb dX1_factor_0 (by decide) ?_
  refine a_newa (D := (dC, dI)) (atype := .int) (N' := 2) (a0 := (2, .inl (fun _ => 0))) hx hb (hts _ q230) rfl hK hP hD hS hA 0 rfl (fun _ => ra_int) (fun _ => rfl) (by decide) (by decide) (by decide) (by first | decide | omega) (by first | decide | omega) dX1_factor_1 (fun na_1 H locs hP hD hS => ?_)
  have hP : va_P (dC, dI) vwCl [((xa 7), .inl (dA 4, 8, .inr (.inr (.inr (.inr (fun k => some (rm k))))))), (na_1, .inl (dA 0, 2, .inl (fun _ => 0)))] H := hP
  have hD : va_D A [((xa 7), .inl (dA 4, 8, .inr (.inr (.inr (.inr (fun k => some (rm k))))))), (na_1, .inl (dA 0, 2, .inl (fun _ => 0)))] := hD
  refine lv_dup hx hb dX1_factor_3 rfl ?_
  refine lv_iconst (v := nI 0) hx hb dX1_factor_4 (by decide) ?_
  refine lv_iload_n hx hb dX1_factor_5 rfl (lv_at hl 1 rfl) ?_
  refine a_iast hx hb hK hP hD hS 1 0 rfl rfl (by omega) (by omega) dX1_factor_6 (fun H locs hP hD hS => ?_)
  have hP : va_P (dC, dI) vwCl [((xa 7), .inl (dA 4, 8, .inr (.inr (.inr (.inr (fun k => some (rm k))))))), (na_1, .inl (dA 0, 2, .inl (upd (fun _ => 0) 0 t)))] H := hP
  have hD : va_D A [((xa 7), .inl (dA 4, 8, .inr (.inr (.inr (.inr (fun k => some (rm k))))))), (na_1, .inl (dA 0, 2, .inl (upd (fun _ => 0) 0 t)))] := hD
  refine lv_dup hx hb dX1_factor_7 rfl ?_
  refine lv_iconst (v := nI 1) hx hb dX1_factor_8 (by decide) ?_
  refine lv_iload_n hx hb dX1_factor_9 rfl (lv_at hl 2 rfl) ?_
  refine a_iast hx hb hK hP hD hS 1 0 rfl rfl (by omega) (by omega) dX1_factor_10 (fun H locs hP hD hS => ?_)
  have hP : va_P (dC, dI) vwCl [((xa 7), .inl (dA 4, 8, .inr (.inr (.inr (.inr (fun k => some (rm k))))))), (na_1, .inl (dA 0, 2, .inl (upd (upd (fun _ => 0) 0 t) 1 a)))] H := hP
  have hD : va_D A [((xa 7), .inl (dA 4, 8, .inr (.inr (.inr (.inr (fun k => some (rm k))))))), (na_1, .inl (dA 0, 2, .inl (upd (upd (fun _ => 0) 0 t) 1 a)))] := hD
  have hF9 := va_free (wc := []) hD hS (fun q h => hA q h) [] rfl
  refine x_v (wc := []) (wr := [((xa 7), .inl (dA 4, 8, .inr (.inr (.inr (.inr (fun k => some (rm k))))))), (na_1, .inl (dA 0, 2, .inl (upd (upd (fun _ => 0) 0 t) 1 a)))]) (vx_runS (As := [.ref na_1]) (rest := []) ⟨hx, hb, hml, hown, hts⟩ (x1_registers Z (va_A [] H.size) H.size (fun q h => Or.inr h) Y na_1 2 (upd (upd (fun _ => 0) 0 t) 1 a) (by decide)) (va_cwS 1 hts (lw_S q469 q470 q96 q471) rfl rfl rfl (by decide +kernel) ⟨Nat.le_of_ble_eq_true rfl, Nat.le_of_ble_eq_true rfl⟩) (gP_S hG hS (fun q _ h => hF9 q h) ⟨rfl, (RO.beside (wr := [(na_1, .inl (dA 0, 2, .inl (upd (upd (fun _ => 0) 0 t) 1 a)))]) hP hD [] [1] rfl rfl (by decide))⟩) rfl rfl hl.1 rfl (lv_room (Nat.le_of_ble_eq_true rfl)) dX1_factor_11 ⟨by first | decide | omega | (show _ ≤ (50 : Nat); omega), by first | decide | omega | (show _ ≤ (400 : Nat); omega)⟩) hP hD hS hA [] [0, 1] rfl rfl (by decide) (by decide) (fun E ce q9 u9 t9 H locs ht9 hp9 hb9 hz hP hS h1 h2 h3 => ?_) (fun u9 H locs hq hX hz hk hP hD hS => ?_)
  · have hD := hD.sub (ws' := [((xa 7), .inl (dA 4, 8, .inr (.inr (.inr (.inr (fun k => some (rm k))))))), (na_1, .inl (dA 0, 2, .inl (upd (upd (fun _ => 0) 0 t) 1 a)))]) [0, 1] (by decide) rfl
    have hP : va_P (dC, dI) vwCl [((xa 7), .inl (dA 4, 8, .inr (.inr (.inr (.inr (fun k => some (rm k))))))), (na_1, .inl (dA 0, 2, .inl (upd (upd (fun _ => 0) 0 t) 1 a)))] H := hP
    have hD : va_D A [((xa 7), .inl (dA 4, 8, .inr (.inr (.inr (.inr (fun k => some (rm k))))))), (na_1, .inl (dA 0, 2, .inl (upd (upd (fun _ => 0) 0 t) 1 a)))] := hD
    subst hb9
    subst hQe
    exact vx_outP hown hlocks (by rw [hxt]; exact (List.forall_mem_cons.mpr ⟨Or.inl (by decide), (fun _ h => nomatch h)⟩)) h1 h2 h3 (fun t10 e10 _ => ⟨(), trivial, (⟨Or.inl (⟨rfl, fc_1 (rgs2.symm.trans hp9)⟩), by rw [e10]; exact hP.sub (ws' := [((xa 7), .inl (dA 4, 8, .inr (.inr (.inr (.inr (fun k => some (rm k)))))))]) [0] rfl⟩ : (_ ∧ _)), hS.F e10⟩) hS.2.2 (by first | decide | omega) (by first | decide | omega)
  have hrg : (rgB t && rgB a) = true := rgs2.symm.trans hq
  clear hq
  have hP : va_P (dC, dI) vwCl [((xa 7), .inl (dA 4, 8, .inr (.inr (.inr (.inr (fun k => some (rm k))))))), (na_1, .inl (dA 0, 2, .inl (upd (upd (fun _ => 0) 0 t) 1 a)))] H := hP
  have hD : va_D A [((xa 7), .inl (dA 4, 8, .inr (.inr (.inr (.inr (fun k => some (rm k))))))), (na_1, .inl (dA 0, 2, .inl (upd (upd (fun _ => 0) 0 t) 1 a)))] := hD
  have hP0 := hP.sub (ws' := [((xa 7), .inl (dA 4, 8, .inr (.inr (.inr (.inr (fun k => some (rm k)))))))]) [0] rfl
  have hD0 := hD.sub (ws' := [((xa 7), .inl (dA 4, 8, .inr (.inr (.inr (.inr (fun k => some (rm k)))))))]) [0] (by decide) rfl
  have h8jt := inB_nat (by decide) (show inB t (nI 0) (nI 7) = true from (Bool.and_eq_true_iff.mp hrg).1)
  have h8ja := inB_nat (by decide) (show inB a (nI 0) (nI 7) = true from (Bool.and_eq_true_iff.mp hrg).2)
  obtain ⟨jt, h9jt, e8jt⟩ := h8jt
  obtain ⟨ja, h9ja, e8ja⟩ := h8ja
  have h7jt : jt < 8 := by omega
  subst e8jt
  have h7ja : ja < 8 := by omega
  subst e8ja
  have hP := hP0
  have hD := hD0
  refine lv_aload_n hx hb dX1_factor_14 rfl (lv_at hl 0 rfl) ?_
  refine va_get (D := (dC, dI)) (ci := 3) (v := .ref (xa 3)) (C := RX1) (T := TX1) (N := 9) hx hb hts in_X1 hown hK (hR0.up hS) 0 rfl rfl 2 (by decide) (hts _ q286) (fun _ h9 => h9) rfl dX1_factor_15 ?_
  refine va_getN (D := (dC, dI)) (ci := 4) (v := .ref (xa 7)) (C := RX4) (T := TX4) (N := 2) hx hb hts in_X4 hown hK (hR0.up hS) 1 rfl rfl 1 (by decide) (((va_Nw.warmF hG.1 (va_Nw.of rfl (Z.2.1 _ q243)))).use rfl) (fun _ h9 => h9) rfl dX1_factor_18 ?_
  refine lv_iload_n hx hb dX1_factor_21 rfl (lv_at hl 2 rfl) ?_
  refine a_aldq hx hb hK hP 0 4 rfl rfl (by omega) (by decide) dX1_factor_22 ?_
  refine e_v (y := .ref (rm ja)) (rfl) ?_
  have hR3 := hRG ja (by omega)
  refine lv_astore (lv' := [(4, .ref (rm ja)), (0, .ref (xa 0)), (1, .int (nI jt)), (2, .int (nI ja)), (3, .int i9)]) hx hb dX1_factor_23 hl (by decide) rfl (fun ls hl => ?_)
  refine lv_aload_n hx hb dX1_factor_25 rfl (lv_at hl 1 rfl) ?_
  refine va_get (D := (dC, dI)) (ci := 3) (v := .ref (xa 3)) (C := RX1) (T := TX1) (N := 9) hx hb hts in_X1 hown hK (hR0.up hS) 0 rfl rfl 2 (by decide) (hts _ q286) (fun _ h9 => h9) rfl dX1_factor_26 ?_
  refine va_getN (D := (dC, dI)) (ci := 4) (v := .ref ga) (C := RX4) (T := TX4) (N := 2) hx hb hts in_X4 hown hK (hR0.up hS) 1 rfl rfl 0 (by decide) (((va_Nw.warmF hG.1 (va_Nw.of rfl (Z.2.1 _ q240)))).use rfl) (fun _ h9 => h9) rfl dX1_factor_29 ?_
  refine lv_aload hx hb dX1_factor_32 (lv_at hl 0 rfl) ?_
  have hF9 := va_free (wc := []) hD hS (fun q h => hA q h) [] rfl
  refine c_i (wr := [((xa 7), .inl (dA 4, 8, .inr (.inr (.inr (.inr (fun k => some (rm k)))))))]) (va_runV (As := [.ref (rm ja)]) (rest := []) ⟨hx, hb, hml, hown, hts⟩ (x5_isBlade Z (va_A [] H.size) H.size (fun q h => Or.inr h) Y ga sg sr p0 q0 r0 (rm ja) (rr ja) (Ms ja) (sR ja (by omega))) (cwV 1 hts (lw_V q878 q879 q880 q101 q881) rfl rfl rfl (by decide +kernel) ⟨Nat.le_of_ble_eq_true rfl, Nat.le_of_ble_eq_true rfl⟩) (gP_V (va_recv hK (hR1.up hS) (ci := 1) (q0 := 0) rfl rfl) hG hS (fun q _ h => hF9 q h) ⟨rfl, (hR3.to hS (fun q _ h => hF9 q h)), (hAG.to hS (fun q _ h => hF9 q h))⟩) rfl rfl hl.1 rfl (lv_room (Nat.le_of_ble_eq_true rfl)) dX1_factor_34 ⟨by first | decide | omega | (show _ ≤ (50 : Nat); omega), by first | decide | omega | (show _ ≤ (400 : Nat); omega)⟩) hP hD hS hA [] [0] rfl rfl (by decide) (by decide) (fun r9 u9 H locs hq hX hz hk hP hD hS => ?_)
  obtain ⟨r_2, rfl⟩ : ∃ z, z = r9 := ⟨_, rfl⟩
  subst hq
  have hP : va_P (dC, dI) vwCl [((xa 7), .inl (dA 4, 8, .inr (.inr (.inr (.inr (fun k => some (rm k)))))))] H := hP
  have hD : va_D A [((xa 7), .inl (dA 4, 8, .inr (.inr (.inr (.inr (fun k => some (rm k)))))))] := hD
  have hF9 := va_free (wc := []) hD hS (fun q h => hA q h) [] rfl
  refine x_v (wc := []) (wr := [((xa 7), .inl (dA 4, 8, .inr (.inr (.inr (.inr (fun k => some (rm k)))))))]) (vx_runS (As := [.int (bI (oneB (p0 + q0 + r0) (Ms ja)))]) (rest := []) ⟨hx, hb, hml, hown, hts⟩ (x1_possible Z (va_A [] H.size) H.size (fun q h => Or.inr h) (SS.st Y) (σ 52) (SS.st2 Y) (oneB (p0 + q0 + r0) (Ms ja))) (va_cwS 1 hts (lw_S q891 q776 q96 q777) rfl rfl rfl (by decide +kernel) ⟨Nat.le_of_ble_eq_true rfl, Nat.le_of_ble_eq_true rfl⟩) (gP_S hG hS (fun q _ h => hF9 q h) rfl) rfl rfl hl.1 rfl (lv_room (Nat.le_of_ble_eq_true rfl)) dX1_factor_37 ⟨by first | decide | omega | (show _ ≤ (50 : Nat); omega), by first | decide | omega | (show _ ≤ (400 : Nat); omega)⟩) hP hD hS hA [] [0] rfl rfl (by decide) (by decide) (fun E ce q9 u9 t9 H locs ht9 hp9 hb9 hz hP hS h1 h2 h3 => ?_) (fun u9 H locs hq hX hz hk hP hD hS => ?_)
  · have hD := hD.sub (ws' := [((xa 7), .inl (dA 4, 8, .inr (.inr (.inr (.inr (fun k => some (rm k)))))))]) [0] (by decide) rfl
    have hP : va_P (dC, dI) vwCl [((xa 7), .inl (dA 4, 8, .inr (.inr (.inr (.inr (fun k => some (rm k)))))))] H := hP
    have hD : va_D A [((xa 7), .inl (dA 4, 8, .inr (.inr (.inr (.inr (fun k => some (rm k)))))))] := hD
    subst hb9
    subst hQe
    exact vx_outP hown hlocks (by rw [hxt]; exact (List.forall_mem_cons.mpr ⟨Or.inl (by decide), (fun _ h => nomatch h)⟩)) h1 h2 h3 (fun t10 e10 _ => ⟨(), trivial, (⟨Or.inr (Or.inl (⟨rfl, fc_2 h7jt h7ja hp9⟩)), by rw [e10]; exact hP.sub (ws' := [((xa 7), .inl (dA 4, 8, .inr (.inr (.inr (.inr (fun k => some (rm k)))))))]) [0] rfl⟩ : (_ ∧ _)), hS.F e10⟩) hS.2.2 (by first | decide | omega) (by first | decide | omega)
  have hg37 : (oneB (p0 + q0 + r0) (Ms ja)) = true := hq
  clear hq
  have hP : va_P (dC, dI) vwCl [((xa 7), .inl (dA 4, 8, .inr (.inr (.inr (.inr (fun k => some (rm k)))))))] H := hP
  have hD : va_D A [((xa 7), .inl (dA 4, 8, .inr (.inr (.inr (.inr (fun k => some (rm k)))))))] := hD
  refine lv_aload hx hb dX1_factor_40 (lv_at hl 0 rfl) ?_
  refine s_i (va_runS (As := [.ref (rm ja)]) (rest := []) ⟨hx, hb, hml, hown, hts⟩ (x1_leading Z Y (rm ja) (rr ja) (Ms ja)) (va_cwS 1 hts (lw_S q892 q893 q96 q894) rfl rfl rfl (by decide +kernel) ⟨Nat.le_of_ble_eq_true rfl, Nat.le_of_ble_eq_true rfl⟩) (gP_S hG hS (fun q _ h => h.elim) ((hR3.up hS).sub (ws' := [((rm ja), .inr (0, [.ref (rr ja), .long (Ms ja 0)])), ((rr ja), .inl (dA 1, 32, .inr (.inl (fun j => Ms ja (j + 1)))))]) [0, 1] rfl)) rfl rfl hl.1 rfl (lv_room (Nat.le_of_ble_eq_true rfl)) dX1_factor_42 ⟨by first | decide | omega | (show _ ≤ (50 : Nat); omega), by first | decide | omega | (show _ ≤ (400 : Nat); omega)⟩) ?_
  refine lv_istore (lv' := [(5, .int (nI (grtN (Ms ja) 32))), (4, .ref (rm ja)), (0, .ref (xa 0)), (1, .int (nI jt)), (2, .int (nI ja)), (3, .int i9)]) hx hb dX1_factor_45 hl (by decide) rfl (fun ls hl => ?_)
  have hlt := grtN_lt (Ms ja) 32 (by decide)
  obtain ⟨st, hst⟩ : ∃ z, z = grtN (Ms ja) 32 := ⟨_, rfl⟩
  have hl : lv_has ls 9 [(5, .int (nI st)), (4, .ref (rm ja)), (0, .ref (xa 0)), (1, .int (nI jt)), (2, .int (nI ja)), (3, .int i9)] := by rw [show nI st = nI (grtN (Ms ja) 32) from (by rw [hst])]; exact hl
  rw [← hst] at hlt
  refine lv_iload_n hx hb dX1_factor_47 rfl (lv_at hl 5 rfl) ?_
  refine lv_i2l (v := i9.toInt64) hx hb dX1_factor_48 rfl ?_
  refine lv_lconst (v := 0) hx hb dX1_factor_49 rfl ?_
  refine va_gets (v := .ref gr) hx hb (hG.Z Z Yg.1) hS hown (hts _ q895) (fun _ h9 => h9) dX1_factor_50 ?_
  refine lv_iload hx hb dX1_factor_53 (lv_at hl 0 rfl) ?_
  refine a_iald hx hb hK (hR2.up hS) 0 0 rfl rfl (by omega) (by omega) dX1_factor_55 ?_
  refine e_i (y := nI (popc st)) (rfl) ?_
  refine lv_iconst (v := nI 1) hx hb dX1_factor_56 (by decide) ?_
  refine lv_isub hx hb dX1_factor_57 ?_
  refine lv_i2l (v := ((nI (popc st)) - (nI 1)).toInt64) hx hb dX1_factor_58 rfl ?_
  refine s_i (va_runS (As := [.long i9.toInt64, .long 0, .long (((nI (popc st)) - (nI 1)).toInt64)]) (rest := []) ⟨hx, hb, hml, hown, hts⟩ (x1_isIn Z i9.toInt64 0 (((nI (popc st)) - (nI 1)).toInt64)) (va_cwS 3 hts (lw_S q332 q333 q96 q334) rfl rfl rfl (by decide +kernel) ⟨Nat.le_of_ble_eq_true rfl, Nat.le_of_ble_eq_true rfl⟩) (gP_S hG hS (fun q _ h => h.elim) trivial) rfl rfl hl.1 rfl (lv_room (Nat.le_of_ble_eq_true rfl)) dX1_factor_59 ⟨by first | decide | omega | (show _ ≤ (50 : Nat); omega), by first | decide | omega | (show _ ≤ (400 : Nat); omega)⟩) ?_
  refine e_i (y := bI (inB i9 (nI 0) (nI (popc st) - nI 1))) (congrArg bI (inL_B i9 (nI 0) (nI (popc st) - nI 1))) ?_
  have hF9 := va_free (wc := []) hD hS (fun q h => hA q h) [] rfl
  refine x_v (wc := []) (wr := [((xa 7), .inl (dA 4, 8, .inr (.inr (.inr (.inr (fun k => some (rm k)))))))]) (vx_runS (As := [.int (bI (inB i9 (nI 0) (nI (popc st) - nI 1)))]) (rest := []) ⟨hx, hb, hml, hown, hts⟩ (x1_argument Z (va_A [] H.size) H.size (fun q h => Or.inr h) (SS.st Y) (σ 51) (SS.st1 Y) (inB i9 (nI 0) (nI (popc st) - nI 1))) (va_cwS 1 hts (lw_S q335 q336 q96 q337) rfl rfl rfl (by decide +kernel) ⟨Nat.le_of_ble_eq_true rfl, Nat.le_of_ble_eq_true rfl⟩) (gP_S hG hS (fun q _ h => hF9 q h) rfl) rfl rfl hl.1 rfl (lv_room (Nat.le_of_ble_eq_true rfl)) dX1_factor_62 ⟨by first | decide | omega | (show _ ≤ (50 : Nat); omega), by first | decide | omega | (show _ ≤ (400 : Nat); omega)⟩) hP hD hS hA [] [0] rfl rfl (by decide) (by decide) (fun E ce q9 u9 t9 H locs ht9 hp9 hb9 hz hP hS h1 h2 h3 => ?_) (fun u9 H locs hq hX hz hk hP hD hS => ?_)
  · have hD := hD.sub (ws' := [((xa 7), .inl (dA 4, 8, .inr (.inr (.inr (.inr (fun k => some (rm k)))))))]) [0] (by decide) rfl
    have hP : va_P (dC, dI) vwCl [((xa 7), .inl (dA 4, 8, .inr (.inr (.inr (.inr (fun k => some (rm k)))))))] H := hP
    have hD : va_D A [((xa 7), .inl (dA 4, 8, .inr (.inr (.inr (.inr (fun k => some (rm k)))))))] := hD
    subst hb9
    subst hQe
    exact vx_outP hown hlocks (by rw [hxt]; exact (List.forall_mem_cons.mpr ⟨Or.inl (by decide), (fun _ h => nomatch h)⟩)) h1 h2 h3 (fun t10 e10 _ => ⟨(), trivial, (⟨Or.inr (Or.inr (Or.inl (⟨rfl, fc_3 h7jt h7ja hn (sR ja (by omega)) (pR ja (by omega)) hg37 hst hp9⟩))), by rw [e10]; exact hP.sub (ws' := [((xa 7), .inl (dA 4, 8, .inr (.inr (.inr (.inr (fun k => some (rm k)))))))]) [0] rfl⟩ : (_ ∧ _)), hS.F e10⟩) hS.2.2 (by first | decide | omega) (by first | decide | omega)
  have hg62 : (inB i9 (nI 0) (nI (popc st) - nI 1)) = true := hq
  clear hq
  have hP : va_P (dC, dI) vwCl [((xa 7), .inl (dA 4, 8, .inr (.inr (.inr (.inr (fun k => some (rm k)))))))] H := hP
  have hD : va_D A [((xa 7), .inl (dA 4, 8, .inr (.inr (.inr (.inr (fun k => some (rm k)))))))] := hD
  obtain ⟨ji, hji, e8i⟩ := fc_j hlt hg62
  have hP0 := hP
  have hD0 := hD
  subst e8i
  have hP := hP0
  have hD := hD0
  obtain ⟨kf, hk5, hkn, hkl, hkb⟩ := fc_k hn (sR ja (by omega)) (pR ja (by omega)) hst hji
  refine lv_iload hx hb dX1_factor_65 (lv_at hl 0 rfl) ?_
  refine lv_iload_n hx hb dX1_factor_67 rfl (lv_at hl 5 rfl) ?_
  refine s_i (va_runS (As := [.int (nI st), .int (nI ji)]) (rest := []) ⟨hx, hb, hml, hown, hts⟩ (x1_vectorOf Z Y st ji hlt hji) (va_cwS 2 hts (lw_S q896 q897 q96 q898) rfl rfl rfl (by decide +kernel) ⟨Nat.le_of_ble_eq_true rfl, Nat.le_of_ble_eq_true rfl⟩) (gP_S hG hS (fun q _ h => h.elim) trivial) rfl rfl hl.1 rfl (lv_room (Nat.le_of_ble_eq_true rfl)) dX1_factor_68 ⟨by first | decide | omega | (show _ ≤ (50 : Nat); omega), by first | decide | omega | (show _ ≤ (400 : Nat); omega)⟩) ?_
  refine e_i (y := nI kf) (n_eq hkl) ?_
  refine lv_istore (lv' := [(6, .int (nI kf)), (5, .int (nI st)), (4, .ref (rm ja)), (0, .ref (xa 0)), (1, .int (nI jt)), (2, .int (nI ja)), (3, .int (nI ji))]) hx hb dX1_factor_71 hl (by decide) rfl (fun ls hl => ?_)
  refine lv_aload_n hx hb dX1_factor_73 rfl (lv_at hl 3 rfl) ?_
  refine va_get (D := (dC, dI)) (ci := 3) (v := .ref (xa 3)) (C := RX1) (T := TX1) (N := 9) hx hb hts in_X1 hown hK (hR0.up hS) 0 rfl rfl 2 (by decide) (hts _ q286) (fun _ h9 => h9) rfl dX1_factor_74 ?_
  refine va_getN (D := (dC, dI)) (ci := 4) (v := .ref ga) (C := RX4) (T := TX4) (N := 2) hx hb hts in_X4 hown hK (hR0.up hS) 1 rfl rfl 0 (by decide) (((va_Nw.warmF hG.1 (va_Nw.of rfl (Z.2.1 _ q240)))).use rfl) (fun _ h9 => h9) rfl dX1_factor_77 ?_
  refine lv_aload hx hb dX1_factor_80 (lv_at hl 2 rfl) ?_
  refine lv_iload hx hb dX1_factor_82 (lv_at hl 1 rfl) ?_
  refine lv_iconst (v := nI 1) hx hb dX1_factor_84 (by decide) ?_
  refine lv_iload hx hb dX1_factor_85 (lv_at hl 0 rfl) ?_
  refine lv_ishl hx hb dX1_factor_87 ?_
  refine e_i (y := nI (2 ^ kf)) (n_shl1 (by omega)) ?_
  have h2k := p5 hk5
  have hxs := xor32 hlt h2k
  refine lv_ixor hx hb dX1_factor_88 ?_
  refine e_i (y := nI (st ^^^ (2 ^ kf))) (n_xor _ _) ?_
  have hF9 := va_free (wc := []) hD hS (fun q h => hA q h) [] rfl
  refine c_r (wr := [((xa 7), .inl (dA 4, 8, .inr (.inr (.inr (.inr (fun k => some (rm k)))))))]) (va_runV (As := [.ref (rm ja), .int (nI (st ^^^ (2 ^ kf)))]) (rest := []) ⟨hx, hb, hml, hown, hts⟩ (x5_left Z (va_A [] H.size) H.size (fun q h => Or.inr h) Y ga sg sr p0 q0 r0 (rm ja) (rr ja) (Ms ja) (st ^^^ (2 ^ kf)) hn (by omega)) (cwV 2 hts (lw_V q899 q884 q885 q101 q886) rfl rfl rfl (by decide +kernel) ⟨Nat.le_of_ble_eq_true rfl, Nat.le_of_ble_eq_true rfl⟩) (gP_V (va_recv hK (hR1.up hS) (ci := 1) (q0 := 0) rfl rfl) hG hS (fun q _ h => hF9 q h) ⟨rfl, ((hR1.to hS (fun q _ h => hF9 q h)).sub [0] rfl), (hR3.to hS (fun q _ h => hF9 q h))⟩) rfl rfl hl.1 rfl (lv_room (Nat.le_of_ble_eq_true rfl)) dX1_factor_89 ⟨by first | decide | omega | (show _ ≤ (50 : Nat); omega), by first | decide | omega | (show _ ≤ (400 : Nat); omega)⟩) hP hD hS hA [] [0] rfl rfl (by decide) (by decide) (fun u9 ra9 H locs hq hX hz hk hP hD hS => ?_)
  obtain ⟨ra_3, rfl⟩ : ∃ z, z = ra9 := ⟨_, rfl⟩
  have hP : va_P (dC, dI) vwCl [((xa 7), .inl (dA 4, 8, .inr (.inr (.inr (.inr (fun k => some (rm k))))))), (ra_3, .inl (dA 1, 5, .inr (.inl (tabS (facV (Ms ja) (st ^^^ (2 ^ kf))) (p0 + q0 + r0)))))] H := hP
  have hD : va_D A [((xa 7), .inl (dA 4, 8, .inr (.inr (.inr (.inr (fun k => some (rm k))))))), (ra_3, .inl (dA 1, 5, .inr (.inl (tabS (facV (Ms ja) (st ^^^ (2 ^ kf))) (p0 + q0 + r0)))))] := hD
  refine lv_astore (lv' := [(7, .ref ra_3), (6, .int (nI kf)), (5, .int (nI st)), (4, .ref (rm ja)), (0, .ref (xa 0)), (1, .int (nI jt)), (2, .int (nI ja)), (3, .int (nI ji))]) hx hb dX1_factor_92 hl (by decide) rfl (fun ls hl => ?_)
  refine lv_aload_n hx hb dX1_factor_94 rfl (lv_at hl 4 rfl) ?_
  refine lv_iload_n hx hb dX1_factor_95 rfl (lv_at hl 5 rfl) ?_
  refine lv_aload hx hb dX1_factor_96 (lv_at hl 0 rfl) ?_
  refine lv_aload hx hb dX1_factor_98 (lv_at hl 0 rfl) ?_
  refine lv_iload hx hb dX1_factor_100 (lv_at hl 1 rfl) ?_
  refine a_lald hx hb hK hP 1 1 rfl rfl (by omega) (by omega) dX1_factor_102 ?_
  have hF9 := va_free (wc := []) hD hS (fun q h => hA q h) [] rfl
  refine x_r (wc := []) (wr := [((xa 7), .inl (dA 4, 8, .inr (.inr (.inr (.inr (fun k => some (rm k))))))), (ra_3, .inl (dA 1, 5, .inr (.inl (tabS (facV (Ms ja) (st ^^^ (2 ^ kf))) (p0 + q0 + r0)))))]) (vx_runS (As := [.ref ra_3, .long ((tabS (facV (Ms ja) (st ^^^ (2 ^ kf))) (p0 + q0 + r0)) kf)]) (rest := [.int (nI jt), .ref (xa 0)]) ⟨hx, hb, hml, hown, hts⟩ (x1_vector Z (va_A [] H.size) H.size (fun q h => Or.inr h) Y ra_3 (tabS (facV (Ms ja) (st ^^^ (2 ^ kf))) (p0 + q0 + r0)) ((tabS (facV (Ms ja) (st ^^^ (2 ^ kf))) (p0 + q0 + r0)) kf) (fc_u hn (sR ja (by omega)) (pR ja (by omega)) hg37 hst hkb) (tab_nm (fun k hk => fc_nm (sR ja (by omega)) hxs hk) hk5) (fun k hk => tab_nm (fun k hk => fc_nm (sR ja (by omega)) hxs hk) hk)) (va_cwS 2 hts (lw_S q900 q901 q96 q902) rfl rfl rfl (by decide +kernel) ⟨Nat.le_of_ble_eq_true rfl, Nat.le_of_ble_eq_true rfl⟩) (gP_S hG hS (fun q _ h => hF9 q h) ⟨rfl, (RO.beside (wr := [(ra_3, .inl (dA 1, 5, .inr (.inl (tabS (facV (Ms ja) (st ^^^ (2 ^ kf))) (p0 + q0 + r0)))))]) hP hD [] [1] rfl rfl (by decide))⟩) rfl rfl hl.1 rfl (lv_room (Nat.le_of_ble_eq_true rfl)) dX1_factor_103 ⟨by first | decide | omega | (show _ ≤ (50 : Nat); omega), by first | decide | omega | (show _ ≤ (400 : Nat); omega)⟩) hP hD hS hA [] [0, 1] rfl rfl (by decide) (by decide) (fun E ce q9 u9 t9 H locs ht9 hp9 hb9 hz hP hS h1 h2 h3 => ?_) (fun u9 ra9 H locs hq hX hz hk hP hD hS => ?_)
  · have hD := hD.sub (ws' := [((xa 7), .inl (dA 4, 8, .inr (.inr (.inr (.inr (fun k => some (rm k))))))), (ra_3, .inl (dA 1, 5, .inr (.inl (tabS (facV (Ms ja) (st ^^^ (2 ^ kf))) (p0 + q0 + r0)))))]) [0, 1] (by decide) rfl
    have hP : va_P (dC, dI) vwCl [((xa 7), .inl (dA 4, 8, .inr (.inr (.inr (.inr (fun k => some (rm k))))))), (ra_3, .inl (dA 1, 5, .inr (.inl (tabS (facV (Ms ja) (st ^^^ (2 ^ kf))) (p0 + q0 + r0)))))] H := hP
    have hD : va_D A [((xa 7), .inl (dA 4, 8, .inr (.inr (.inr (.inr (fun k => some (rm k))))))), (ra_3, .inl (dA 1, 5, .inr (.inl (tabS (facV (Ms ja) (st ^^^ (2 ^ kf))) (p0 + q0 + r0)))))] := hD
    subst hb9
    refine vx_catch (name := "BladeAlgebra$Unfit") (E := "BladeAlgebra$Unfit") (ce := ce) hown [] ⟨94, 109, 110, 179⟩ [] hxt (fun _ h => nomatch h) (by decide) (by decide) (hts _ q468) (castZ Z hG q523) h1 h2 h3 ?_
    have hpU := hp9
    refine lv_astore (lv' := [(8, .ref q9), (7, .ref ra_3), (6, .int (nI kf)), (5, .int (nI st)), (4, .ref (rm ja)), (0, .ref (xa 0)), (1, .int (nI jt)), (2, .int (nI ja)), (3, .int (nI ji))]) hx hb dX1_factor_110 hl (by decide) rfl (fun ls hl => ?_)
    have hF9 := va_free (wc := []) hD hS (fun q h => hA q h) [] rfl
    refine c_r (wr := [((xa 7), .inl (dA 4, 8, .inr (.inr (.inr (.inr (fun k => some (rm k))))))), (ra_3, .inl (dA 1, 5, .inr (.inl (tabS (facV (Ms ja) (st ^^^ (2 ^ kf))) (p0 + q0 + r0)))))]) (va_runS (As := []) (rest := []) ⟨hx, hb, hml, hown, hts⟩ (x1_large Z (va_A [] H.size) H.size (fun q h => Or.inr h) Y) (va_cwS 0 hts (lw_S q562 q563 q96 q564) rfl rfl rfl (by decide +kernel) ⟨Nat.le_of_ble_eq_true rfl, Nat.le_of_ble_eq_true rfl⟩) (gP_S hG hS (fun q _ h => hF9 q h) rfl) rfl rfl hl.1 rfl (lv_room (Nat.le_of_ble_eq_true rfl)) dX1_factor_112 ⟨by first | decide | omega | (show _ ≤ (50 : Nat); omega), by first | decide | omega | (show _ ≤ (400 : Nat); omega)⟩) hP hD hS hA [] [0, 1] rfl rfl (by decide) (by decide) (fun u9 ra9 H locs hq hX hz hk hP hD hS => ?_)
    obtain ⟨ra_4, rfl⟩ : ∃ z, z = ra9 := ⟨_, rfl⟩
    have hP : va_P (dC, dI) vwCl [((xa 7), .inl (dA 4, 8, .inr (.inr (.inr (.inr (fun k => some (rm k))))))), (ra_3, .inl (dA 1, 5, .inr (.inl (tabS (facV (Ms ja) (st ^^^ (2 ^ kf))) (p0 + q0 + r0))))), (ra_4, .inr (17, []))] H := hP
    have hD : va_D A [((xa 7), .inl (dA 4, 8, .inr (.inr (.inr (.inr (fun k => some (rm k))))))), (ra_3, .inl (dA 1, 5, .inr (.inl (tabS (facV (Ms ja) (st ^^^ (2 ^ kf))) (p0 + q0 + r0))))), (ra_4, .inr (17, []))] := hD
    refine vx_athrow hx hb dX1_factor_115 ?_
    obtain ⟨ce, h1, h2, h3⟩ := va_thr hK hP (ci := 17) (q0 := 2) rfl rfl
    subst hQe
    exact vx_outP hown hlocks (by rw [hxt]; exact (List.forall_mem_cons.mpr ⟨Or.inl (by decide), (fun _ h => nomatch h)⟩)) h1 h2 h3 (fun t10 e10 _ => ⟨(), trivial, (⟨Or.inr (Or.inr (Or.inr (⟨rfl, fc_o h7jt h7ja hn (sR ja (by omega)) (pR ja (by omega)) hg37 hst hji (fc_f hn (sR ja (by omega)) (pR ja (by omega)) hst hkb hpU)⟩))), by rw [e10]; exact hP.sub (ws' := [((xa 7), .inl (dA 4, 8, .inr (.inr (.inr (.inr (fun k => some (rm k)))))))]) [0] rfl⟩ : (_ ∧ _)), hS.F e10⟩) hS.2.2 (by first | decide | omega) (by first | decide | omega)
  obtain ⟨ra_5, rfl⟩ : ∃ z, z = ra9 := ⟨_, rfl⟩
  obtain ⟨mr_5, M_5⟩ := u9
  have e_5 := hq
  have sm_5 : MSm M_5 := fitG_sm (fc_u hn (sR ja (by omega)) (pR ja (by omega)) hg37 hst hkb) (tab_nm (fun k hk => fc_nm (sR ja (by omega)) hxs hk) hk5) e_5
  clear hq
  have hP : va_P (dC, dI) vwCl [((xa 7), .inl (dA 4, 8, .inr (.inr (.inr (.inr (fun k => some (rm k))))))), (ra_3, .inl (dA 1, 5, .inr (.inl (tabS (facV (Ms ja) (st ^^^ (2 ^ kf))) (p0 + q0 + r0))))), (ra_5, .inr (0, [.ref mr_5, .long (M_5 0)])), (mr_5, .inl (dA 1, 32, .inr (.inl (fun j => M_5 (j + 1)))))] H := hP
  have hD : va_D A [((xa 7), .inl (dA 4, 8, .inr (.inr (.inr (.inr (fun k => some (rm k))))))), (ra_3, .inl (dA 1, 5, .inr (.inl (tabS (facV (Ms ja) (st ^^^ (2 ^ kf))) (p0 + q0 + r0))))), (ra_5, .inr (0, [.ref mr_5, .long (M_5 0)])), (mr_5, .inl (dA 1, 32, .inr (.inl (fun j => M_5 (j + 1)))))] := hD
  have hF9 := va_free (wc := [((xa 7), .inl (dA 4, 8, .inr (.inr (.inr (.inr (fun k => some (rm k)))))))]) hD hS (fun q h => hA q h) [0] rfl
  refine c_i (wr := [(ra_3, .inl (dA 1, 5, .inr (.inl (tabS (facV (Ms ja) (st ^^^ (2 ^ kf))) (p0 + q0 + r0))))), (ra_5, .inr (0, [.ref mr_5, .long (M_5 0)])), (mr_5, .inl (dA 1, 32, .inr (.inl (fun j => M_5 (j + 1)))))]) (va_runV (As := [.int (nI jt), .ref ra_5]) (rest := []) ⟨hx, hb, hml, hown, hts⟩ (x1_store Z (va_A [((xa 7), .inl (dA 4, 8, .inr (.inr (.inr (.inr (fun k => some (rm k)))))))] H.size) H.size (fun q h => Or.inr h) Y xa tl ec ep ga (fun k => some (rm k)) jt ra_5 mr_5 M_5 (by omega)) (cwV 2 hts (lw_V q731 q733 qs6 q96 q734) rfl rfl rfl (by decide +kernel) ⟨Nat.le_of_ble_eq_true rfl, Nat.le_of_ble_eq_true rfl⟩) (gP_V (va_recv hK (hR0.up hS) (ci := 3) (q0 := 0) rfl rfl) hG hS (fun q _ h => hF9 q h) ⟨rfl, (hP.sub (ws' := [((xa 7), .inl (dA 4, 8, .inr (.inr (.inr (.inr (fun k => some (rm k)))))))]) [0] rfl), (hD.sub (ws' := [((xa 7), .inl (dA 4, 8, .inr (.inr (.inr (.inr (fun k => some (rm k)))))))]) [0] (by decide) rfl).self, (hR0.to hS (fun q _ h => hF9 q h)), (RO.beside (wr := [(ra_5, .inr (0, [.ref mr_5, .long (M_5 0)])), (mr_5, .inl (dA 1, 32, .inr (.inl (fun j => M_5 (j + 1)))))]) hP hD [0] [2, 3] rfl rfl (by decide))⟩) rfl rfl hl.1 rfl (lv_room (Nat.le_of_ble_eq_true rfl)) dX1_factor_106 ⟨by first | decide | omega | (show _ ≤ (50 : Nat); omega), by first | decide | omega | (show _ ≤ (400 : Nat); omega)⟩) hP hD hS hA [0] [1, 2, 3] rfl rfl (by decide) (by decide) (fun r9 u9 H locs hq hX hz hk hP hD hS => ?_)
  obtain ⟨r_6, rfl⟩ : ∃ z, z = r9 := ⟨_, rfl⟩
  subst hq
  have hP : va_P (dC, dI) vwCl [(ra_3, .inl (dA 1, 5, .inr (.inl (tabS (facV (Ms ja) (st ^^^ (2 ^ kf))) (p0 + q0 + r0))))), (ra_5, .inr (0, [.ref mr_5, .long (M_5 0)])), (mr_5, .inl (dA 1, 32, .inr (.inl (fun j => M_5 (j + 1))))), ((xa 7), .inl (dA 4, 8, .inr (.inr (.inr (.inr (va_up (fun k => some (rm k)) jt (some ra_5)))))))] H := hP
  have hD : va_D A [(ra_3, .inl (dA 1, 5, .inr (.inl (tabS (facV (Ms ja) (st ^^^ (2 ^ kf))) (p0 + q0 + r0))))), (ra_5, .inr (0, [.ref mr_5, .long (M_5 0)])), (mr_5, .inl (dA 1, 32, .inr (.inl (fun j => M_5 (j + 1))))), ((xa 7), .inl (dA 4, 8, .inr (.inr (.inr (.inr (va_up (fun k => some (rm k)) jt (some ra_5)))))))] := hD
  have e8 : rg (nI jt) = jt := rg_n (by omega)
  subst hQe
  refine vx_ret ?_
  refine W.widen (k := 50) (n := 400) (by first | decide | omega) (by first | decide | omega) ?_
  exact W.iret (v := nI (trmS M_5)) hx hb hr (fun tz ht hW => ⟨⟨_, (ra_5, mr_5, M_5), rfl, ⟨fc_o h7jt h7ja hn (sR ja (by omega)) (pR ja (by omega)) hg37 hst hji (fc_f hn (sR ja (by omega)) (pR ja (by omega)) hst hkb e_5), rfl⟩, B1_at ht (by rw [e8]; exact hP.sub [3] rfl) (by rw [e8]; exact hD.sub [3] (by decide) rfl) (⟨hP.sub [1, 2] rfl, Or.inl ⟨fresh_of hD hAf 3 1 rfl rfl (by decide), fresh_of hD hAf 3 2 rfl rfl (by decide)⟩⟩)⟩, hS.F ht⟩) hS.2.2 dX1_factor_109
set_option maxHeartbeats 4000000 in
theorem x1_point {l : Launch} {dC : Nat → ClassId} {dI : Nat → Nat → Nat} {dA : Nat → ClassId} {s0 : State} {b0 : Addr} (Z : Z0 l dC dI dA s0 b0) (A : Nat → Prop) (sz : Nat) (hA : ∀ q : Nat, sz ≤ q → A q) {σ : Nat → Nat} (Y : SS (dC, dI) dA σ s0) (xa : Nat → Nat) (tl : Nat) (ec ep : Int32) (ga sg : Nat) (sr : Nat → Nat) (p0 q0 r0 : Nat) (rm rr : Nat → Nat) (Ms : Nat → MV) (t x9 y9 z9 d9 : Int32) (sR : ∀ k, k < 8 → MSm (Ms k)) (pR : ∀ k, k < 8 → MSp (2 ^ (p0 + q0 + r0)) (Ms k)) (hAf : ∀ q, A q → q = xa 7 ∨ sz ≤ q) : vx_Met l yX1_point (wsW_ yX1_point cX1_point 13 (some .int) [((238 : Nat), (253 : Nat), (254 : Nat), (179 : Nat))]) ({ frames := 9, cells := 14, slots := 160, locals := 540 } : Room) (gP [.ref (xa 0), .int t, .int x9, .int y9, .int z9, .int d9] s0 A (fun H => H.size = sz ∧ va_P (dC, dI) vwCl [((xa 7), .inl (dA 4, 8, .inr (.inr (.inr (.inr (fun k => some (rm k)))))))] H ∧ va_D A [((xa 7), .inl (dA 4, 8, .inr (.inr (.inr (.inr (fun k => some (rm k)))))))] ∧ RO A (dC, dI) [((xa 0), .inr (3, xFs xa tl ec ep)), ((xa 3), .inr (4, [.ref ga, .ref (xa 7)]))] H ∧ AG A (dC, dI) dA ga sg sr p0 q0 r0 H ∧ RG A (dC, dI) dA rm rr Ms H)) (va_Qi (S := Nat × Nat × MV) (fun r9 u => ptX p0 q0 r0 t x9 y9 z9 d9 = (nI 0, some u.2.2) ∧ r9 = nI (trmS u.2.2)) (B1 (dC, dI) A (fun u => [(xa 7, .inl (dA 4, 8, .inr (.inr (.inr (.inr (va_up (fun k => some (rm k)) (rg t) (some u.1)))))))]) (fun u H => NM (dC, dI) dA σ rm rr Ms sz u H)) A) (vx_X (S := Unit) (fun _ => True) (fun _ E _ t9 => ((E = "java/lang/IndexOutOfBoundsException" ∧ ptX p0 q0 r0 t x9 y9 z9 d9 = (nI 1, none)) ∨ (E = "java/lang/IllegalArgumentException" ∧ ptX p0 q0 r0 t x9 y9 z9 d9 = (nI 2, none)) ∨ (E = "java/lang/IllegalStateException" ∧ ptX p0 q0 r0 t x9 y9 z9 d9 = (nI 3, none)) ∨ (E = "java/lang/ArithmeticException" ∧ ptX p0 q0 r0 t x9 y9 z9 d9 = (nI 4, none))) ∧ va_P (dC, dI) vwCl [((xa 7), .inl (dA 4, 8, .inr (.inr (.inr (.inr (fun k => some (rm k)))))))] t9.heap) A) 14 160 A := by
  refine vx_ofWH (cc := cX1_point) (maxL := 13) (ret := (some .int)) (by decide) rfl ?_
  intro p e s m args below meth c s₁ B hml hv
  obtain ⟨hav, hG, hsz, hP, hD, hR0, hAG, hRG⟩ := hv
  have hx := B.exec
  have hb := B.bytes
  have hr := B.returns
  have hts := atoms_spec (ws := (wsW_ yX1_point cX1_point 13 (some .int) [((238 : Nat), (253 : Nat), (254 : Nat), (179 : Nat))])) B.pre
  have hxt : c.exceptionTable.toList = [⟨238, 253, 254, 179⟩] := vx_table (x := yX1_point) (y := yX1_point) B (hts _ List.mem_cons_self)
  have hts : ∀ w ∈ lw_all, w.before _ s = true := fun w h => hts w (List.mem_cons_of_mem _ h)
  have hown : s.vm.findClass RX1 = some m.cls := findClass_of_methodNamed B.named
  have hlocks := B.notSynchronized
  have hK := hG.K Z
  subst hsz
  have hS : va_S A s.heap s.heap [] := va_S.rf
  have hl := lv_entry ([.ref (xa 0), .int t, .int x9, .int y9, .int z9, .int d9]) (n := 13) (Nat.le_of_ble_eq_true rfl)
  rw [show entryFrame m args 13 = entryFrame m ([.ref (xa 0), .int t, .int x9, .int y9, .int z9, .int d9] : List Value).toArray 13 from by rw [hav], lg_entry_eq]
  generalize (lg_sl ([.ref (xa 0), .int t, .int x9, .int y9, .int z9, .int d9]) ++ List.replicate (13 - (lg_sl ([.ref (xa 0), .int t, .int x9, .int y9, .int z9, .int d9])).length) Slot.unset).toArray = ls at hl ⊢
  have hl : lv_has ls 13 [(0, .ref (xa 0)), (1, .int t), (2, .int x9), (3, .int y9), (4, .int z9), (5, .int d9)] := hl
  generalize hQe : vx_MQ below _ _ _ s _ _ _ = Q
  change W p l e ({ frames := 9, cells := 14, slots := 160, locals := 540 } : Room) s m args below meth c s.heap [] 0 0 Q (F0 m 0 ls [])
  have hn := hAG.1
  have h5 := pow5 hn
  have hR1 := hAG.2.1
  refine lv_iconst (v := nI 1) hx hb dX1_point_0 (by decide) ?_
  refine a_newa (D := (dC, dI)) (atype := .int) (N' := 1) (a0 := (1, .inl (fun _ => 0))) hx hb (hts _ q230) rfl hK hP hD hS hA 0 rfl (fun _ => ra_int) (fun _ => rfl) (by decide) (by decide) (by decide) (by first | decide | omega) (by first | decide | omega) dX1_point_1 (fun na_1 H locs hP hD hS => ?_)
  have hP : va_P (dC, dI) vwCl [((xa 7), .inl (dA 4, 8, .inr (.inr (.inr (.inr (fun k => some (rm k))))))), (na_1, .inl (dA 0, 1, .inl (fun _ => 0)))] H := hP
  have hD : va_D A [((xa 7), .inl (dA 4, 8, .inr (.inr (.inr (.inr (fun k => some (rm k))))))), (na_1, .inl (dA 0, 1, .inl (fun _ => 0)))] := hD
  refine lv_dup hx hb dX1_point_3 rfl ?_
  refine lv_iconst (v := nI 0) hx hb dX1_point_4 (by decide) ?_
  refine lv_iload_n hx hb dX1_point_5 rfl (lv_at hl 1 rfl) ?_
  refine a_iast hx hb hK hP hD hS 1 0 rfl rfl (by omega) (by omega) dX1_point_6 (fun H locs hP hD hS => ?_)
  have hP : va_P (dC, dI) vwCl [((xa 7), .inl (dA 4, 8, .inr (.inr (.inr (.inr (fun k => some (rm k))))))), (na_1, .inl (dA 0, 1, .inl (upd (fun _ => 0) 0 t)))] H := hP
  have hD : va_D A [((xa 7), .inl (dA 4, 8, .inr (.inr (.inr (.inr (fun k => some (rm k))))))), (na_1, .inl (dA 0, 1, .inl (upd (fun _ => 0) 0 t)))] := hD
  have hF9 := va_free (wc := []) hD hS (fun q h => hA q h) [] rfl
  refine x_v (wc := []) (wr := [((xa 7), .inl (dA 4, 8, .inr (.inr (.inr (.inr (fun k => some (rm k))))))), (na_1, .inl (dA 0, 1, .inl (upd (fun _ => 0) 0 t)))]) (vx_runS (As := [.ref na_1]) (rest := []) ⟨hx, hb, hml, hown, hts⟩ (x1_registers Z (va_A [] H.size) H.size (fun q h => Or.inr h) Y na_1 1 (upd (fun _ => 0) 0 t) (by decide)) (va_cwS 1 hts (lw_S q469 q470 q96 q471) rfl rfl rfl (by decide +kernel) ⟨Nat.le_of_ble_eq_true rfl, Nat.le_of_ble_eq_true rfl⟩) (gP_S hG hS (fun q _ h => hF9 q h) ⟨rfl, (RO.beside (wr := [(na_1, .inl (dA 0, 1, .inl (upd (fun _ => 0) 0 t)))]) hP hD [] [1] rfl rfl (by decide))⟩) rfl rfl hl.1 rfl (lv_room (Nat.le_of_ble_eq_true rfl)) dX1_point_7 ⟨by first | decide | omega | (show _ ≤ (14 : Nat); omega), by first | decide | omega | (show _ ≤ (160 : Nat); omega)⟩) hP hD hS hA [] [0, 1] rfl rfl (by decide) (by decide) (fun E ce q9 u9 t9 H locs ht9 hp9 hb9 hz hP hS h1 h2 h3 => ?_) (fun u9 H locs hq hX hz hk hP hD hS => ?_)
  · have hD := hD.sub (ws' := [((xa 7), .inl (dA 4, 8, .inr (.inr (.inr (.inr (fun k => some (rm k))))))), (na_1, .inl (dA 0, 1, .inl (upd (fun _ => 0) 0 t)))]) [0, 1] (by decide) rfl
    have hP : va_P (dC, dI) vwCl [((xa 7), .inl (dA 4, 8, .inr (.inr (.inr (.inr (fun k => some (rm k))))))), (na_1, .inl (dA 0, 1, .inl (upd (fun _ => 0) 0 t)))] H := hP
    have hD : va_D A [((xa 7), .inl (dA 4, 8, .inr (.inr (.inr (.inr (fun k => some (rm k))))))), (na_1, .inl (dA 0, 1, .inl (upd (fun _ => 0) 0 t)))] := hD
    subst hb9
    subst hQe
    exact vx_outP hown hlocks (by rw [hxt]; exact (List.forall_mem_cons.mpr ⟨Or.inl (by decide), (fun _ h => nomatch h)⟩)) h1 h2 h3 (fun t10 e10 _ => ⟨(), trivial, (⟨Or.inl (⟨rfl, pt_1 (rgs1.symm.trans hp9)⟩), by rw [e10]; exact hP.sub (ws' := [((xa 7), .inl (dA 4, 8, .inr (.inr (.inr (.inr (fun k => some (rm k)))))))]) [0] rfl⟩ : (_ ∧ _)), hS.F e10⟩) hS.2.2 (by first | decide | omega) (by first | decide | omega)
  have hrg : (rgB t) = true := rgs1.symm.trans hq
  clear hq
  have hP : va_P (dC, dI) vwCl [((xa 7), .inl (dA 4, 8, .inr (.inr (.inr (.inr (fun k => some (rm k))))))), (na_1, .inl (dA 0, 1, .inl (upd (fun _ => 0) 0 t)))] H := hP
  have hD : va_D A [((xa 7), .inl (dA 4, 8, .inr (.inr (.inr (.inr (fun k => some (rm k))))))), (na_1, .inl (dA 0, 1, .inl (upd (fun _ => 0) 0 t)))] := hD
  have hP0 := hP.sub (ws' := [((xa 7), .inl (dA 4, 8, .inr (.inr (.inr (.inr (fun k => some (rm k)))))))]) [0] rfl
  have hD0 := hD.sub (ws' := [((xa 7), .inl (dA 4, 8, .inr (.inr (.inr (.inr (fun k => some (rm k)))))))]) [0] (by decide) rfl
  have h8jt := inB_nat (by decide) (show inB t (nI 0) (nI 7) = true from hrg)
  obtain ⟨jt, h9jt, e8jt⟩ := h8jt
  have h7jt : jt < 8 := by omega
  subst e8jt
  have hP := hP0
  have hD := hD0
  refine lv_iload_n hx hb dX1_point_10 rfl (lv_at hl 2 rfl) ?_
  refine lv_i2l (v := x9.toInt64) hx hb dX1_point_11 rfl ?_
  refine lv_ldc2 hx hb hown (hts _ q1129) dX1_point_12 ?_
  refine lv_ldc2 hx hb hown (hts _ q1130) dX1_point_15 ?_
  refine s_i (va_runS (As := [.long x9.toInt64, .long (-1000 : Int64), .long (1000 : Int64)]) (rest := []) ⟨hx, hb, hml, hown, hts⟩ (x1_isIn Z x9.toInt64 (-1000 : Int64) (1000 : Int64)) (va_cwS 3 hts (lw_S q332 q333 q96 q334) rfl rfl rfl (by decide +kernel) ⟨Nat.le_of_ble_eq_true rfl, Nat.le_of_ble_eq_true rfl⟩) (gP_S hG hS (fun q _ h => h.elim) trivial) rfl rfl hl.1 rfl (lv_room (Nat.le_of_ble_eq_true rfl)) dX1_point_18 ⟨by first | decide | omega | (show _ ≤ (14 : Nat); omega), by first | decide | omega | (show _ ≤ (160 : Nat); omega)⟩) ?_
  refine e_i (y := bI (inB x9 (-1000) (nI 1000))) (congrArg bI (inL_B x9 (-1000) (nI 1000))) ?_
  have J_2 : ∀ (g1 : Bool) (H : Heap) (locs : List Loc) (ls : Array Slot), (g1 = (coB x9 && coB y9 && coB z9 && inB d9 (nI 1) (nI 100))) → va_P (dC, dI) vwCl [((xa 7), .inl (dA 4, 8, .inr (.inr (.inr (.inr (fun k => some (rm k)))))))] H → va_D A [((xa 7), .inl (dA 4, 8, .inr (.inr (.inr (.inr (fun k => some (rm k)))))))] → va_S A s.heap H locs → lv_has ls 13 [(0, .ref (xa 0)), (1, .int (nI jt)), (2, .int x9), (3, .int y9), (4, .int z9), (5, .int d9)] → W p l e ({ frames := 9, cells := 14, slots := 160, locals := 540 } : Room) s m args below meth c H locs (0 + 1 + 3) (0 + 1 + 18) Q (F0 m 71 ls [.int (bI g1)]) := by
    intro g1 H locs ls hg1 hP hD hS hl
    have hF9 := va_free (wc := []) hD hS (fun q h => hA q h) [] rfl
    refine x_v (wc := []) (wr := [((xa 7), .inl (dA 4, 8, .inr (.inr (.inr (.inr (fun k => some (rm k)))))))]) (vx_runS (As := [.int (bI g1)]) (rest := []) ⟨hx, hb, hml, hown, hts⟩ (x1_argument Z (va_A [] H.size) H.size (fun q h => Or.inr h) (SS.st Y) (σ 51) (SS.st1 Y) g1) (va_cwS 1 hts (lw_S q335 q336 q96 q337) rfl rfl rfl (by decide +kernel) ⟨Nat.le_of_ble_eq_true rfl, Nat.le_of_ble_eq_true rfl⟩) (gP_S hG hS (fun q _ h => hF9 q h) rfl) rfl rfl hl.1 rfl (lv_room (Nat.le_of_ble_eq_true rfl)) dX1_point_71 ⟨by first | decide | omega | (show _ ≤ (14 : Nat); omega), by first | decide | omega | (show _ ≤ (160 : Nat); omega)⟩) hP hD hS hA [] [0] rfl rfl (by decide) (by decide) (fun E ce q9 u9 t9 H locs ht9 hp9 hb9 hz hP hS h1 h2 h3 => ?_) (fun u9 H locs hq hX hz hk hP hD hS => ?_)
    · have hD := hD.sub (ws' := [((xa 7), .inl (dA 4, 8, .inr (.inr (.inr (.inr (fun k => some (rm k)))))))]) [0] (by decide) rfl
      have hP : va_P (dC, dI) vwCl [((xa 7), .inl (dA 4, 8, .inr (.inr (.inr (.inr (fun k => some (rm k)))))))] H := hP
      have hD : va_D A [((xa 7), .inl (dA 4, 8, .inr (.inr (.inr (.inr (fun k => some (rm k)))))))] := hD
      subst hb9
      subst hQe
      exact vx_outP hown hlocks (by rw [hxt]; exact (List.forall_mem_cons.mpr ⟨Or.inl (by decide), (fun _ h => nomatch h)⟩)) h1 h2 h3 (fun t10 e10 _ => ⟨(), trivial, (⟨Or.inr (Or.inl (⟨rfl, pt_2 h7jt (by unfold ptB; rw [← hg1, hp9, Bool.false_and])⟩)), by rw [e10]; exact hP.sub (ws' := [((xa 7), .inl (dA 4, 8, .inr (.inr (.inr (.inr (fun k => some (rm k)))))))]) [0] rfl⟩ : (_ ∧ _)), hS.F e10⟩) hS.2.2 (by first | decide | omega) (by first | decide | omega)
    have hg71 : g1 = true := hq
    clear hq
    have hP : va_P (dC, dI) vwCl [((xa 7), .inl (dA 4, 8, .inr (.inr (.inr (.inr (fun k => some (rm k)))))))] H := hP
    have hD : va_D A [((xa 7), .inl (dA 4, 8, .inr (.inr (.inr (.inr (fun k => some (rm k)))))))] := hD
    refine lv_aload_n hx hb dX1_point_74 rfl (lv_at hl 0 rfl) ?_
    refine s_i (va_runV (As := []) (rest := []) ⟨hx, hb, hml, hown, hts⟩ (x1_isConformal Z Y xa tl ec ep ga sg p0 q0 r0 hn) (cwV 0 hts (lw_V q1132 q1134 qs12 q96 q1135) rfl rfl rfl (by decide +kernel) ⟨Nat.le_of_ble_eq_true rfl, Nat.le_of_ble_eq_true rfl⟩) (gP_V (va_recv hK (hR0.up hS) (ci := 3) (q0 := 0) rfl rfl) hG hS (fun q _ h => h.elim) (va_P.app ((hR0.up hS).sub (ws' := [((xa 0), .inr (3, xFs xa tl ec ep)), ((xa 3), .inr (4, [.ref ga, .ref (xa 7)]))]) [0, 1] rfl) ((hR1.up hS).sub (ws' := [(ga, .inr (1, [.int (nI p0), .int (nI q0), .int (nI r0), .int (nI (p0 + q0 + r0)), .int (nI (2 ^ (p0 + q0 + r0) - 1)), .ref sg]))]) [0] rfl))) rfl rfl hl.1 rfl (lv_room (Nat.le_of_ble_eq_true rfl)) dX1_point_75 ⟨by first | decide | omega | (show _ ≤ (14 : Nat); omega), by first | decide | omega | (show _ ≤ (160 : Nat); omega)⟩) ?_
    have J_3 : ∀ (g2 : Bool) (H : Heap) (locs : List Loc) (ls : Array Slot), (g2 = czN x9 y9 z9 (pk0 p0 q0 r0) (3 - pk0 p0 q0 r0)) → va_P (dC, dI) vwCl [((xa 7), .inl (dA 4, 8, .inr (.inr (.inr (.inr (fun k => some (rm k)))))))] H → va_D A [((xa 7), .inl (dA 4, 8, .inr (.inr (.inr (.inr (fun k => some (rm k)))))))] → va_S A s.heap H locs → lv_has ls 13 [(0, .ref (xa 0)), (1, .int (nI jt)), (2, .int x9), (3, .int y9), (4, .int z9), (5, .int d9)] → W p l e ({ frames := 9, cells := 14, slots := 160, locals := 540 } : Room) s m args below meth c H locs (0 + 1 + 3 + 1) (0 + 1 + 18 + 6) Q (F0 m 111 ls [.int (bI g2)]) := by
      intro g2 H locs ls hg2 hP hD hS hl
      have hF9 := va_free (wc := []) hD hS (fun q h => hA q h) [] rfl
      refine x_v (wc := []) (wr := [((xa 7), .inl (dA 4, 8, .inr (.inr (.inr (.inr (fun k => some (rm k)))))))]) (vx_runS (As := [.int (bI g2)]) (rest := []) ⟨hx, hb, hml, hown, hts⟩ (x1_argument Z (va_A [] H.size) H.size (fun q h => Or.inr h) (SS.st Y) (σ 51) (SS.st1 Y) g2) (va_cwS 1 hts (lw_S q335 q336 q96 q337) rfl rfl rfl (by decide +kernel) ⟨Nat.le_of_ble_eq_true rfl, Nat.le_of_ble_eq_true rfl⟩) (gP_S hG hS (fun q _ h => hF9 q h) rfl) rfl rfl hl.1 rfl (lv_room (Nat.le_of_ble_eq_true rfl)) dX1_point_111 ⟨by first | decide | omega | (show _ ≤ (14 : Nat); omega), by first | decide | omega | (show _ ≤ (160 : Nat); omega)⟩) hP hD hS hA [] [0] rfl rfl (by decide) (by decide) (fun E ce q9 u9 t9 H locs ht9 hp9 hb9 hz hP hS h1 h2 h3 => ?_) (fun u9 H locs hq hX hz hk hP hD hS => ?_)
      · have hD := hD.sub (ws' := [((xa 7), .inl (dA 4, 8, .inr (.inr (.inr (.inr (fun k => some (rm k)))))))]) [0] (by decide) rfl
        have hP : va_P (dC, dI) vwCl [((xa 7), .inl (dA 4, 8, .inr (.inr (.inr (.inr (fun k => some (rm k)))))))] H := hP
        have hD : va_D A [((xa 7), .inl (dA 4, 8, .inr (.inr (.inr (.inr (fun k => some (rm k)))))))] := hD
        subst hb9
        subst hQe
        exact vx_outP hown hlocks (by rw [hxt]; exact (List.forall_mem_cons.mpr ⟨Or.inl (by decide), (fun _ h => nomatch h)⟩)) h1 h2 h3 (fun t10 e10 _ => ⟨(), trivial, (⟨Or.inr (Or.inl (⟨rfl, pt_2 h7jt (by unfold ptB; rw [← hg2, hp9, Bool.and_false])⟩)), by rw [e10]; exact hP.sub (ws' := [((xa 7), .inl (dA 4, 8, .inr (.inr (.inr (.inr (fun k => some (rm k)))))))]) [0] rfl⟩ : (_ ∧ _)), hS.F e10⟩) hS.2.2 (by first | decide | omega) (by first | decide | omega)
      have hg111 : g2 = true := hq
      clear hq
      have hP : va_P (dC, dI) vwCl [((xa 7), .inl (dA 4, 8, .inr (.inr (.inr (.inr (fun k => some (rm k)))))))] H := hP
      have hD : va_D A [((xa 7), .inl (dA 4, 8, .inr (.inr (.inr (.inr (fun k => some (rm k)))))))] := hD
      refine lv_aload_n hx hb dX1_point_114 rfl (lv_at hl 0 rfl) ?_
      refine s_i (va_runV (As := []) (rest := []) ⟨hx, hb, hml, hown, hts⟩ (x1_isConformal Z Y xa tl ec ep ga sg p0 q0 r0 hn) (cwV 0 hts (lw_V q1132 q1134 qs12 q96 q1135) rfl rfl rfl (by decide +kernel) ⟨Nat.le_of_ble_eq_true rfl, Nat.le_of_ble_eq_true rfl⟩) (gP_V (va_recv hK (hR0.up hS) (ci := 3) (q0 := 0) rfl rfl) hG hS (fun q _ h => h.elim) (va_P.app ((hR0.up hS).sub (ws' := [((xa 0), .inr (3, xFs xa tl ec ep)), ((xa 3), .inr (4, [.ref ga, .ref (xa 7)]))]) [0, 1] rfl) ((hR1.up hS).sub (ws' := [(ga, .inr (1, [.int (nI p0), .int (nI q0), .int (nI r0), .int (nI (p0 + q0 + r0)), .int (nI (2 ^ (p0 + q0 + r0) - 1)), .ref sg]))]) [0] rfl))) rfl rfl hl.1 rfl (lv_room (Nat.le_of_ble_eq_true rfl)) dX1_point_115 ⟨by first | decide | omega | (show _ ≤ (14 : Nat); omega), by first | decide | omega | (show _ ≤ (160 : Nat); omega)⟩) ?_
      have hF9 := va_free (wc := []) hD hS (fun q h => hA q h) [] rfl
      refine x_v (wc := []) (wr := [((xa 7), .inl (dA 4, 8, .inr (.inr (.inr (.inr (fun k => some (rm k)))))))]) (vx_runS (As := [.int (bI (cfB p0 q0 r0))]) (rest := []) ⟨hx, hb, hml, hown, hts⟩ (x1_possible Z (va_A [] H.size) H.size (fun q h => Or.inr h) (SS.st Y) (σ 52) (SS.st2 Y) (cfB p0 q0 r0)) (va_cwS 1 hts (lw_S q891 q776 q96 q777) rfl rfl rfl (by decide +kernel) ⟨Nat.le_of_ble_eq_true rfl, Nat.le_of_ble_eq_true rfl⟩) (gP_S hG hS (fun q _ h => hF9 q h) rfl) rfl rfl hl.1 rfl (lv_room (Nat.le_of_ble_eq_true rfl)) dX1_point_118 ⟨by first | decide | omega | (show _ ≤ (14 : Nat); omega), by first | decide | omega | (show _ ≤ (160 : Nat); omega)⟩) hP hD hS hA [] [0] rfl rfl (by decide) (by decide) (fun E ce q9 u9 t9 H locs ht9 hp9 hb9 hz hP hS h1 h2 h3 => ?_) (fun u9 H locs hq hX hz hk hP hD hS => ?_)
      · have hD := hD.sub (ws' := [((xa 7), .inl (dA 4, 8, .inr (.inr (.inr (.inr (fun k => some (rm k)))))))]) [0] (by decide) rfl
        have hP : va_P (dC, dI) vwCl [((xa 7), .inl (dA 4, 8, .inr (.inr (.inr (.inr (fun k => some (rm k)))))))] H := hP
        have hD : va_D A [((xa 7), .inl (dA 4, 8, .inr (.inr (.inr (.inr (fun k => some (rm k)))))))] := hD
        subst hb9
        subst hQe
        exact vx_outP hown hlocks (by rw [hxt]; exact (List.forall_mem_cons.mpr ⟨Or.inl (by decide), (fun _ h => nomatch h)⟩)) h1 h2 h3 (fun t10 e10 _ => ⟨(), trivial, (⟨Or.inr (Or.inr (Or.inl (⟨rfl, pt_3 h7jt (by unfold ptB; rw [← hg1, ← hg2, hg71, hg111]; rfl) hp9⟩))), by rw [e10]; exact hP.sub (ws' := [((xa 7), .inl (dA 4, 8, .inr (.inr (.inr (.inr (fun k => some (rm k)))))))]) [0] rfl⟩ : (_ ∧ _)), hS.F e10⟩) hS.2.2 (by first | decide | omega) (by first | decide | omega)
      have hg118 : (cfB p0 q0 r0) = true := hq
      clear hq
      have hP : va_P (dC, dI) vwCl [((xa 7), .inl (dA 4, 8, .inr (.inr (.inr (.inr (fun k => some (rm k)))))))] H := hP
      have hD : va_D A [((xa 7), .inl (dA 4, 8, .inr (.inr (.inr (.inr (fun k => some (rm k)))))))] := hD
      have hcf := hg118
      have hcp := cf_p hcf
      have hcz := hg2.symm.trans hg111
      rw [cz_c hcf] at hcz
      have hpb := hg1.symm.trans hg71
      obtain ⟨hp1, hp2, hp3, hp4⟩ := pt_of hpb
      have hpB : ptB p0 q0 r0 x9 y9 z9 d9 = true := (by unfold ptB; rw [← hg1, ← hg2, hg71, hg111]; rfl)
      obtain ⟨hq1, hr1, hpl, hpu⟩ := hcp
      subst hq1
      subst hr1
      rcases (show p0 = 2 ∨ p0 = 3 ∨ p0 = 4 by omega) with rfl | rfl | rfl
      · have hyz := pt_yz2 hcz
        refine lv_iconst (v := nI 5) hx hb dX1_point_121 (by decide) ?_
        refine a_newa (D := (dC, dI)) (atype := .long) (N' := 5) (a0 := (5, .inr (.inl (fun _ => 0)))) hx hb (hts _ q542) rfl hK hP hD hS hA 1 rfl (fun _ => ra_long) (fun _ => rfl) (by decide) (by decide) (by decide) (by first | decide | omega) (by first | decide | omega) dX1_point_122 (fun na_4 H locs hP hD hS => ?_)
        have hP : va_P (dC, dI) vwCl [((xa 7), .inl (dA 4, 8, .inr (.inr (.inr (.inr (fun k => some (rm k))))))), (na_4, .inl (dA 1, 5, .inr (.inl (fun _ => 0))))] H := hP
        have hD : va_D A [((xa 7), .inl (dA 4, 8, .inr (.inr (.inr (.inr (fun k => some (rm k))))))), (na_4, .inl (dA 1, 5, .inr (.inl (fun _ => 0))))] := hD
        refine lv_astore (lv' := [(6, .ref na_4), (0, .ref (xa 0)), (1, .int (nI jt)), (2, .int x9), (3, .int y9), (4, .int z9), (5, .int d9)]) hx hb dX1_point_124 hl (by decide) rfl (fun ls hl => ?_)
        refine lv_iload hx hb dX1_point_126 (lv_at hl 6 rfl) ?_
        refine lv_i2l (v := d9.toInt64) hx hb dX1_point_128 rfl ?_
        refine lv_lstore (lv' := [(7, .long d9.toInt64), (6, .ref na_4), (0, .ref (xa 0)), (1, .int (nI jt)), (2, .int x9), (3, .int y9), (4, .int z9), (5, .int d9)]) hx hb dX1_point_129 hl (by decide) rfl (fun ls hl => ?_)
        refine lv_iload_n hx hb dX1_point_131 rfl (lv_at hl 4 rfl) ?_
        refine lv_i2l (v := x9.toInt64) hx hb dX1_point_132 rfl ?_
        refine lv_iload_n hx hb dX1_point_133 rfl (lv_at hl 4 rfl) ?_
        refine lv_i2l (v := x9.toInt64) hx hb dX1_point_134 rfl ?_
        refine lv_lmul hx hb dX1_point_135 ?_
        refine lv_iload_n hx hb dX1_point_136 rfl (lv_at hl 5 rfl) ?_
        refine lv_i2l (v := y9.toInt64) hx hb dX1_point_137 rfl ?_
        refine lv_iload_n hx hb dX1_point_138 rfl (lv_at hl 5 rfl) ?_
        refine lv_i2l (v := y9.toInt64) hx hb dX1_point_139 rfl ?_
        refine lv_lmul hx hb dX1_point_140 ?_
        refine lv_ladd hx hb dX1_point_141 ?_
        refine lv_iload hx hb dX1_point_142 (lv_at hl 6 rfl) ?_
        refine lv_i2l (v := z9.toInt64) hx hb dX1_point_144 rfl ?_
        refine lv_iload hx hb dX1_point_145 (lv_at hl 6 rfl) ?_
        refine lv_i2l (v := z9.toInt64) hx hb dX1_point_147 rfl ?_
        refine lv_lmul hx hb dX1_point_148 ?_
        refine lv_ladd hx hb dX1_point_149 ?_
        refine lv_lstore (lv' := [(9, .long (((x9.toInt64 * x9.toInt64) + (y9.toInt64 * y9.toInt64)) + (z9.toInt64 * z9.toInt64))), (7, .long d9.toInt64), (6, .ref na_4), (0, .ref (xa 0)), (1, .int (nI jt)), (2, .int x9), (3, .int y9), (4, .int z9), (5, .int d9)]) hx hb dX1_point_150 hl (by decide) rfl (fun ls hl => ?_)
        refine lv_aload_n hx hb dX1_point_152 rfl (lv_at hl 3 rfl) ?_
        refine s_i (va_runV (As := []) (rest := []) ⟨hx, hb, hml, hown, hts⟩ (x1_dimensions Z Y xa tl ec ep ga sg 2 1 0 (by decide)) (cwV 0 hts (lw_V q1138 q1140 qs13 q96 q1141) rfl rfl rfl (by decide +kernel) ⟨Nat.le_of_ble_eq_true rfl, Nat.le_of_ble_eq_true rfl⟩) (gP_V (va_recv hK (hR0.up hS) (ci := 3) (q0 := 0) rfl rfl) hG hS (fun q _ h => h.elim) (va_P.app ((hR0.up hS).sub (ws' := [((xa 0), .inr (3, xFs xa tl ec ep)), ((xa 3), .inr (4, [.ref ga, .ref (xa 7)]))]) [0, 1] rfl) ((hR1.up hS).sub (ws' := [(ga, .inr (1, [.int (nI 2), .int (nI 1), .int (nI 0), .int (nI (2 + 1 + 0)), .int (nI (2 ^ (2 + 1 + 0) - 1)), .ref sg]))]) [0] rfl))) rfl rfl hl.1 rfl (lv_room (Nat.le_of_ble_eq_true rfl)) dX1_point_153 ⟨by first | decide | omega | (show _ ≤ (14 : Nat); omega), by first | decide | omega | (show _ ≤ (160 : Nat); omega)⟩) ?_
        refine e_i (y := nI 1) (rfl) ?_
        refine lv_istore (lv' := [(11, .int (nI 1)), (9, .long (((x9.toInt64 * x9.toInt64) + (y9.toInt64 * y9.toInt64)) + (z9.toInt64 * z9.toInt64))), (7, .long d9.toInt64), (6, .ref na_4), (0, .ref (xa 0)), (1, .int (nI jt)), (2, .int x9), (3, .int y9), (4, .int z9), (5, .int d9)]) hx hb dX1_point_156 hl (by decide) rfl (fun ls hl => ?_)
        refine lv_aload hx hb dX1_point_158 (lv_at hl 3 rfl) ?_
        refine lv_iconst (v := nI 0) hx hb dX1_point_160 (by decide) ?_
        refine lv_ldc2 hx hb hown (hts _ q1136) dX1_point_161 ?_
        refine lv_iload_n hx hb dX1_point_164 rfl (lv_at hl 6 rfl) ?_
        refine lv_i2l (v := x9.toInt64) hx hb dX1_point_165 rfl ?_
        refine lv_lmul hx hb dX1_point_166 ?_
        refine lv_lload hx hb dX1_point_167 (lv_at hl 2 rfl) ?_
        refine lv_lmul hx hb dX1_point_169 ?_
        refine a_last hx hb hK hP hD hS 1 1 rfl rfl (by omega) (by omega) dX1_point_170 (fun H locs hP hD hS => ?_)
        have hP : va_P (dC, dI) vwCl [((xa 7), .inl (dA 4, 8, .inr (.inr (.inr (.inr (fun k => some (rm k))))))), (na_4, .inl (dA 1, 5, .inr (.inl (vp_updL (fun _ => 0) 0 (((2 : Int64) * x9.toInt64) * d9.toInt64)))))] H := hP
        have hD : va_D A [((xa 7), .inl (dA 4, 8, .inr (.inr (.inr (.inr (fun k => some (rm k))))))), (na_4, .inl (dA 1, 5, .inr (.inl (vp_updL (fun _ => 0) 0 (((2 : Int64) * x9.toInt64) * d9.toInt64)))))] := hD
        refine lv_iload hx hb dX1_point_171 (lv_at hl 0 rfl) ?_
        refine lv_iconst (v := nI 1) hx hb dX1_point_173 (by decide) ?_
        refine lv_icmp_le (tgt := 190) hx hb dX1_point_174 (by decide) (fun c_174 => ?_) (fun c_174 => ?_)
        rotate_left
        · exact absurd (by decide) c_174
        refine lv_iload hx hb dX1_point_190 (lv_at hl 0 rfl) ?_
        refine lv_iconst (v := nI 2) hx hb dX1_point_192 (by decide) ?_
        refine lv_icmp_le (tgt := 210) hx hb dX1_point_193 (by decide) (fun c_193 => ?_) (fun c_193 => ?_)
        rotate_left
        · exact absurd (by decide) c_193
        refine lv_aload hx hb dX1_point_210 (lv_at hl 3 rfl) ?_
        refine lv_iload hx hb dX1_point_212 (lv_at hl 0 rfl) ?_
        refine lv_lload hx hb dX1_point_214 (lv_at hl 1 rfl) ?_
        refine lv_lload hx hb dX1_point_216 (lv_at hl 2 rfl) ?_
        refine lv_lload hx hb dX1_point_218 (lv_at hl 2 rfl) ?_
        refine lv_lmul hx hb dX1_point_220 ?_
        refine lv_lsub hx hb dX1_point_221 ?_
        refine a_last hx hb hK hP hD hS 1 1 rfl rfl (by omega) (by omega) dX1_point_222 (fun H locs hP hD hS => ?_)
        have hP : va_P (dC, dI) vwCl [((xa 7), .inl (dA 4, 8, .inr (.inr (.inr (.inr (fun k => some (rm k))))))), (na_4, .inl (dA 1, 5, .inr (.inl (vp_updL (vp_updL (fun _ => 0) 0 (((2 : Int64) * x9.toInt64) * d9.toInt64)) 1 ((((x9.toInt64 * x9.toInt64) + (y9.toInt64 * y9.toInt64)) + (z9.toInt64 * z9.toInt64)) - (d9.toInt64 * d9.toInt64))))))] H := hP
        have hD : va_D A [((xa 7), .inl (dA 4, 8, .inr (.inr (.inr (.inr (fun k => some (rm k))))))), (na_4, .inl (dA 1, 5, .inr (.inl (vp_updL (vp_updL (fun _ => 0) 0 (((2 : Int64) * x9.toInt64) * d9.toInt64)) 1 ((((x9.toInt64 * x9.toInt64) + (y9.toInt64 * y9.toInt64)) + (z9.toInt64 * z9.toInt64)) - (d9.toInt64 * d9.toInt64))))))] := hD
        refine lv_aload hx hb dX1_point_223 (lv_at hl 3 rfl) ?_
        refine lv_iload hx hb dX1_point_225 (lv_at hl 0 rfl) ?_
        refine lv_iconst (v := nI 1) hx hb dX1_point_227 (by decide) ?_
        refine lv_iadd hx hb dX1_point_228 ?_
        refine e_i (y := nI 2) (nI_add _ _) ?_
        refine lv_lload hx hb dX1_point_229 (lv_at hl 1 rfl) ?_
        refine lv_lload hx hb dX1_point_231 (lv_at hl 2 rfl) ?_
        refine lv_lload hx hb dX1_point_233 (lv_at hl 2 rfl) ?_
        refine lv_lmul hx hb dX1_point_235 ?_
        refine lv_ladd hx hb dX1_point_236 ?_
        refine a_last hx hb hK hP hD hS 1 1 rfl rfl (by omega) (by omega) dX1_point_237 (fun H locs hP hD hS => ?_)
        have hP : va_P (dC, dI) vwCl [((xa 7), .inl (dA 4, 8, .inr (.inr (.inr (.inr (fun k => some (rm k))))))), (na_4, .inl (dA 1, 5, .inr (.inl (vp_updL (vp_updL (vp_updL (fun _ => 0) 0 (((2 : Int64) * x9.toInt64) * d9.toInt64)) 1 ((((x9.toInt64 * x9.toInt64) + (y9.toInt64 * y9.toInt64)) + (z9.toInt64 * z9.toInt64)) - (d9.toInt64 * d9.toInt64))) 2 ((((x9.toInt64 * x9.toInt64) + (y9.toInt64 * y9.toInt64)) + (z9.toInt64 * z9.toInt64)) + (d9.toInt64 * d9.toInt64))))))] H := hP
        have hD : va_D A [((xa 7), .inl (dA 4, 8, .inr (.inr (.inr (.inr (fun k => some (rm k))))))), (na_4, .inl (dA 1, 5, .inr (.inl (vp_updL (vp_updL (vp_updL (fun _ => 0) 0 (((2 : Int64) * x9.toInt64) * d9.toInt64)) 1 ((((x9.toInt64 * x9.toInt64) + (y9.toInt64 * y9.toInt64)) + (z9.toInt64 * z9.toInt64)) - (d9.toInt64 * d9.toInt64))) 2 ((((x9.toInt64 * x9.toInt64) + (y9.toInt64 * y9.toInt64)) + (z9.toInt64 * z9.toInt64)) + (d9.toInt64 * d9.toInt64))))))] := hD
        refine lv_aload_n hx hb dX1_point_238 rfl (lv_at hl 4 rfl) ?_
        refine lv_iload_n hx hb dX1_point_239 rfl (lv_at hl 5 rfl) ?_
        refine lv_aload hx hb dX1_point_240 (lv_at hl 3 rfl) ?_
        refine lv_lload hx hb dX1_point_242 (lv_at hl 2 rfl) ?_
        refine lv_lload hx hb dX1_point_244 (lv_at hl 2 rfl) ?_
        refine lv_lmul hx hb dX1_point_246 ?_
        have hF9 := va_free (wc := []) hD hS (fun q h => hA q h) [] rfl
        refine x_r (wc := []) (wr := [((xa 7), .inl (dA 4, 8, .inr (.inr (.inr (.inr (fun k => some (rm k))))))), (na_4, .inl (dA 1, 5, .inr (.inl (vp_updL (vp_updL (vp_updL (fun _ => 0) 0 (((2 : Int64) * x9.toInt64) * d9.toInt64)) 1 ((((x9.toInt64 * x9.toInt64) + (y9.toInt64 * y9.toInt64)) + (z9.toInt64 * z9.toInt64)) - (d9.toInt64 * d9.toInt64))) 2 ((((x9.toInt64 * x9.toInt64) + (y9.toInt64 * y9.toInt64)) + (z9.toInt64 * z9.toInt64)) + (d9.toInt64 * d9.toInt64))))))]) (vx_runS (As := [.ref na_4, .long (d9.toInt64 * d9.toInt64)]) (rest := [.int (nI jt), .ref (xa 0)]) ⟨hx, hb, hml, hown, hts⟩ (x1_vector Z (va_A [] H.size) H.size (fun q h => Or.inr h) Y na_4 (vp_updL (vp_updL (vp_updL (fun _ => 0) 0 (((2 : Int64) * x9.toInt64) * d9.toInt64)) 1 ((((x9.toInt64 * x9.toInt64) + (y9.toInt64 * y9.toInt64)) + (z9.toInt64 * z9.toInt64)) - (d9.toInt64 * d9.toInt64))) 2 ((((x9.toInt64 * x9.toInt64) + (y9.toInt64 * y9.toInt64)) + (z9.toInt64 * z9.toInt64)) + (d9.toInt64 * d9.toInt64))) (d9.toInt64 * d9.toInt64) (pt_u hp4).1 (pt_u hp4).2 (pt_nm (by decide) (pt_v2 hyz) hpB)) (va_cwS 2 hts (lw_S q900 q901 q96 q902) rfl rfl rfl (by decide +kernel) ⟨Nat.le_of_ble_eq_true rfl, Nat.le_of_ble_eq_true rfl⟩) (gP_S hG hS (fun q _ h => hF9 q h) ⟨rfl, (RO.beside (wr := [(na_4, .inl (dA 1, 5, .inr (.inl (vp_updL (vp_updL (vp_updL (fun _ => 0) 0 (((2 : Int64) * x9.toInt64) * d9.toInt64)) 1 ((((x9.toInt64 * x9.toInt64) + (y9.toInt64 * y9.toInt64)) + (z9.toInt64 * z9.toInt64)) - (d9.toInt64 * d9.toInt64))) 2 ((((x9.toInt64 * x9.toInt64) + (y9.toInt64 * y9.toInt64)) + (z9.toInt64 * z9.toInt64)) + (d9.toInt64 * d9.toInt64))))))]) hP hD [] [1] rfl rfl (by decide))⟩) rfl rfl hl.1 rfl (lv_room (Nat.le_of_ble_eq_true rfl)) dX1_point_247 ⟨by first | decide | omega | (show _ ≤ (14 : Nat); omega), by first | decide | omega | (show _ ≤ (160 : Nat); omega)⟩) hP hD hS hA [] [0, 1] rfl rfl (by decide) (by decide) (fun E ce q9 u9 t9 H locs ht9 hp9 hb9 hz hP hS h1 h2 h3 => ?_) (fun u9 ra9 H locs hq hX hz hk hP hD hS => ?_)
        · have hD := hD.sub (ws' := [((xa 7), .inl (dA 4, 8, .inr (.inr (.inr (.inr (fun k => some (rm k))))))), (na_4, .inl (dA 1, 5, .inr (.inl (vp_updL (vp_updL (vp_updL (fun _ => 0) 0 (((2 : Int64) * x9.toInt64) * d9.toInt64)) 1 ((((x9.toInt64 * x9.toInt64) + (y9.toInt64 * y9.toInt64)) + (z9.toInt64 * z9.toInt64)) - (d9.toInt64 * d9.toInt64))) 2 ((((x9.toInt64 * x9.toInt64) + (y9.toInt64 * y9.toInt64)) + (z9.toInt64 * z9.toInt64)) + (d9.toInt64 * d9.toInt64))))))]) [0, 1] (by decide) rfl
          have hP : va_P (dC, dI) vwCl [((xa 7), .inl (dA 4, 8, .inr (.inr (.inr (.inr (fun k => some (rm k))))))), (na_4, .inl (dA 1, 5, .inr (.inl (vp_updL (vp_updL (vp_updL (fun _ => 0) 0 (((2 : Int64) * x9.toInt64) * d9.toInt64)) 1 ((((x9.toInt64 * x9.toInt64) + (y9.toInt64 * y9.toInt64)) + (z9.toInt64 * z9.toInt64)) - (d9.toInt64 * d9.toInt64))) 2 ((((x9.toInt64 * x9.toInt64) + (y9.toInt64 * y9.toInt64)) + (z9.toInt64 * z9.toInt64)) + (d9.toInt64 * d9.toInt64))))))] H := hP
          have hD : va_D A [((xa 7), .inl (dA 4, 8, .inr (.inr (.inr (.inr (fun k => some (rm k))))))), (na_4, .inl (dA 1, 5, .inr (.inl (vp_updL (vp_updL (vp_updL (fun _ => 0) 0 (((2 : Int64) * x9.toInt64) * d9.toInt64)) 1 ((((x9.toInt64 * x9.toInt64) + (y9.toInt64 * y9.toInt64)) + (z9.toInt64 * z9.toInt64)) - (d9.toInt64 * d9.toInt64))) 2 ((((x9.toInt64 * x9.toInt64) + (y9.toInt64 * y9.toInt64)) + (z9.toInt64 * z9.toInt64)) + (d9.toInt64 * d9.toInt64))))))] := hD
          subst hb9
          refine vx_catch (name := "BladeAlgebra$Unfit") (E := "BladeAlgebra$Unfit") (ce := ce) hown [] ⟨238, 253, 254, 179⟩ [] hxt (fun _ h => nomatch h) (by decide) (by decide) (hts _ q468) (castZ Z hG q523) h1 h2 h3 ?_
          have hpU := hp9
          refine lv_astore (lv' := [(12, .ref q9), (11, .int (nI 1)), (9, .long (((x9.toInt64 * x9.toInt64) + (y9.toInt64 * y9.toInt64)) + (z9.toInt64 * z9.toInt64))), (7, .long d9.toInt64), (6, .ref na_4), (0, .ref (xa 0)), (1, .int (nI jt)), (2, .int x9), (3, .int y9), (4, .int z9), (5, .int d9)]) hx hb dX1_point_254 hl (by decide) rfl (fun ls hl => ?_)
          have hF9 := va_free (wc := []) hD hS (fun q h => hA q h) [] rfl
          refine c_r (wr := [((xa 7), .inl (dA 4, 8, .inr (.inr (.inr (.inr (fun k => some (rm k))))))), (na_4, .inl (dA 1, 5, .inr (.inl (vp_updL (vp_updL (vp_updL (fun _ => 0) 0 (((2 : Int64) * x9.toInt64) * d9.toInt64)) 1 ((((x9.toInt64 * x9.toInt64) + (y9.toInt64 * y9.toInt64)) + (z9.toInt64 * z9.toInt64)) - (d9.toInt64 * d9.toInt64))) 2 ((((x9.toInt64 * x9.toInt64) + (y9.toInt64 * y9.toInt64)) + (z9.toInt64 * z9.toInt64)) + (d9.toInt64 * d9.toInt64))))))]) (va_runS (As := []) (rest := []) ⟨hx, hb, hml, hown, hts⟩ (x1_large Z (va_A [] H.size) H.size (fun q h => Or.inr h) Y) (va_cwS 0 hts (lw_S q562 q563 q96 q564) rfl rfl rfl (by decide +kernel) ⟨Nat.le_of_ble_eq_true rfl, Nat.le_of_ble_eq_true rfl⟩) (gP_S hG hS (fun q _ h => hF9 q h) rfl) rfl rfl hl.1 rfl (lv_room (Nat.le_of_ble_eq_true rfl)) dX1_point_256 ⟨by first | decide | omega | (show _ ≤ (14 : Nat); omega), by first | decide | omega | (show _ ≤ (160 : Nat); omega)⟩) hP hD hS hA [] [0, 1] rfl rfl (by decide) (by decide) (fun u9 ra9 H locs hq hX hz hk hP hD hS => ?_)
          obtain ⟨ra_5, rfl⟩ : ∃ z, z = ra9 := ⟨_, rfl⟩
          have hP : va_P (dC, dI) vwCl [((xa 7), .inl (dA 4, 8, .inr (.inr (.inr (.inr (fun k => some (rm k))))))), (na_4, .inl (dA 1, 5, .inr (.inl (vp_updL (vp_updL (vp_updL (fun _ => 0) 0 (((2 : Int64) * x9.toInt64) * d9.toInt64)) 1 ((((x9.toInt64 * x9.toInt64) + (y9.toInt64 * y9.toInt64)) + (z9.toInt64 * z9.toInt64)) - (d9.toInt64 * d9.toInt64))) 2 ((((x9.toInt64 * x9.toInt64) + (y9.toInt64 * y9.toInt64)) + (z9.toInt64 * z9.toInt64)) + (d9.toInt64 * d9.toInt64)))))), (ra_5, .inr (17, []))] H := hP
          have hD : va_D A [((xa 7), .inl (dA 4, 8, .inr (.inr (.inr (.inr (fun k => some (rm k))))))), (na_4, .inl (dA 1, 5, .inr (.inl (vp_updL (vp_updL (vp_updL (fun _ => 0) 0 (((2 : Int64) * x9.toInt64) * d9.toInt64)) 1 ((((x9.toInt64 * x9.toInt64) + (y9.toInt64 * y9.toInt64)) + (z9.toInt64 * z9.toInt64)) - (d9.toInt64 * d9.toInt64))) 2 ((((x9.toInt64 * x9.toInt64) + (y9.toInt64 * y9.toInt64)) + (z9.toInt64 * z9.toInt64)) + (d9.toInt64 * d9.toInt64)))))), (ra_5, .inr (17, []))] := hD
          refine vx_athrow hx hb dX1_point_259 ?_
          obtain ⟨ce, h1, h2, h3⟩ := va_thr hK hP (ci := 17) (q0 := 2) rfl rfl
          subst hQe
          exact vx_outP hown hlocks (by rw [hxt]; exact (List.forall_mem_cons.mpr ⟨Or.inl (by decide), (fun _ h => nomatch h)⟩)) h1 h2 h3 (fun t10 e10 _ => ⟨(), trivial, (⟨Or.inr (Or.inr (Or.inr (⟨rfl, pt_o h7jt hpB hcf (pt_f (pt_v2 hyz) hp4 hpU)⟩))), by rw [e10]; exact hP.sub (ws' := [((xa 7), .inl (dA 4, 8, .inr (.inr (.inr (.inr (fun k => some (rm k)))))))]) [0] rfl⟩ : (_ ∧ _)), hS.F e10⟩) hS.2.2 (by first | decide | omega) (by first | decide | omega)
        obtain ⟨ra_6, rfl⟩ : ∃ z, z = ra9 := ⟨_, rfl⟩
        obtain ⟨mr_6, M_6⟩ := u9
        have e_6 := hq
        have sm_6 : MSm M_6 := fitG_sm (pt_u hp4).1 (pt_u hp4).2 e_6
        clear hq
        have hP : va_P (dC, dI) vwCl [((xa 7), .inl (dA 4, 8, .inr (.inr (.inr (.inr (fun k => some (rm k))))))), (na_4, .inl (dA 1, 5, .inr (.inl (vp_updL (vp_updL (vp_updL (fun _ => 0) 0 (((2 : Int64) * x9.toInt64) * d9.toInt64)) 1 ((((x9.toInt64 * x9.toInt64) + (y9.toInt64 * y9.toInt64)) + (z9.toInt64 * z9.toInt64)) - (d9.toInt64 * d9.toInt64))) 2 ((((x9.toInt64 * x9.toInt64) + (y9.toInt64 * y9.toInt64)) + (z9.toInt64 * z9.toInt64)) + (d9.toInt64 * d9.toInt64)))))), (ra_6, .inr (0, [.ref mr_6, .long (M_6 0)])), (mr_6, .inl (dA 1, 32, .inr (.inl (fun j => M_6 (j + 1)))))] H := hP
        have hD : va_D A [((xa 7), .inl (dA 4, 8, .inr (.inr (.inr (.inr (fun k => some (rm k))))))), (na_4, .inl (dA 1, 5, .inr (.inl (vp_updL (vp_updL (vp_updL (fun _ => 0) 0 (((2 : Int64) * x9.toInt64) * d9.toInt64)) 1 ((((x9.toInt64 * x9.toInt64) + (y9.toInt64 * y9.toInt64)) + (z9.toInt64 * z9.toInt64)) - (d9.toInt64 * d9.toInt64))) 2 ((((x9.toInt64 * x9.toInt64) + (y9.toInt64 * y9.toInt64)) + (z9.toInt64 * z9.toInt64)) + (d9.toInt64 * d9.toInt64)))))), (ra_6, .inr (0, [.ref mr_6, .long (M_6 0)])), (mr_6, .inl (dA 1, 32, .inr (.inl (fun j => M_6 (j + 1)))))] := hD
        have hF9 := va_free (wc := [((xa 7), .inl (dA 4, 8, .inr (.inr (.inr (.inr (fun k => some (rm k)))))))]) hD hS (fun q h => hA q h) [0] rfl
        refine c_i (wr := [(na_4, .inl (dA 1, 5, .inr (.inl (vp_updL (vp_updL (vp_updL (fun _ => 0) 0 (((2 : Int64) * x9.toInt64) * d9.toInt64)) 1 ((((x9.toInt64 * x9.toInt64) + (y9.toInt64 * y9.toInt64)) + (z9.toInt64 * z9.toInt64)) - (d9.toInt64 * d9.toInt64))) 2 ((((x9.toInt64 * x9.toInt64) + (y9.toInt64 * y9.toInt64)) + (z9.toInt64 * z9.toInt64)) + (d9.toInt64 * d9.toInt64)))))), (ra_6, .inr (0, [.ref mr_6, .long (M_6 0)])), (mr_6, .inl (dA 1, 32, .inr (.inl (fun j => M_6 (j + 1)))))]) (va_runV (As := [.int (nI jt), .ref ra_6]) (rest := []) ⟨hx, hb, hml, hown, hts⟩ (x1_store Z (va_A [((xa 7), .inl (dA 4, 8, .inr (.inr (.inr (.inr (fun k => some (rm k)))))))] H.size) H.size (fun q h => Or.inr h) Y xa tl ec ep ga (fun k => some (rm k)) jt ra_6 mr_6 M_6 (by omega)) (cwV 2 hts (lw_V q731 q733 qs6 q96 q734) rfl rfl rfl (by decide +kernel) ⟨Nat.le_of_ble_eq_true rfl, Nat.le_of_ble_eq_true rfl⟩) (gP_V (va_recv hK (hR0.up hS) (ci := 3) (q0 := 0) rfl rfl) hG hS (fun q _ h => hF9 q h) ⟨rfl, (hP.sub (ws' := [((xa 7), .inl (dA 4, 8, .inr (.inr (.inr (.inr (fun k => some (rm k)))))))]) [0] rfl), (hD.sub (ws' := [((xa 7), .inl (dA 4, 8, .inr (.inr (.inr (.inr (fun k => some (rm k)))))))]) [0] (by decide) rfl).self, (hR0.to hS (fun q _ h => hF9 q h)), (RO.beside (wr := [(ra_6, .inr (0, [.ref mr_6, .long (M_6 0)])), (mr_6, .inl (dA 1, 32, .inr (.inl (fun j => M_6 (j + 1)))))]) hP hD [0] [2, 3] rfl rfl (by decide))⟩) rfl rfl hl.1 rfl (lv_room (Nat.le_of_ble_eq_true rfl)) dX1_point_250 ⟨by first | decide | omega | (show _ ≤ (14 : Nat); omega), by first | decide | omega | (show _ ≤ (160 : Nat); omega)⟩) hP hD hS hA [0] [1, 2, 3] rfl rfl (by decide) (by decide) (fun r9 u9 H locs hq hX hz hk hP hD hS => ?_)
        obtain ⟨r_7, rfl⟩ : ∃ z, z = r9 := ⟨_, rfl⟩
        subst hq
        have hP : va_P (dC, dI) vwCl [(na_4, .inl (dA 1, 5, .inr (.inl (vp_updL (vp_updL (vp_updL (fun _ => 0) 0 (((2 : Int64) * x9.toInt64) * d9.toInt64)) 1 ((((x9.toInt64 * x9.toInt64) + (y9.toInt64 * y9.toInt64)) + (z9.toInt64 * z9.toInt64)) - (d9.toInt64 * d9.toInt64))) 2 ((((x9.toInt64 * x9.toInt64) + (y9.toInt64 * y9.toInt64)) + (z9.toInt64 * z9.toInt64)) + (d9.toInt64 * d9.toInt64)))))), (ra_6, .inr (0, [.ref mr_6, .long (M_6 0)])), (mr_6, .inl (dA 1, 32, .inr (.inl (fun j => M_6 (j + 1))))), ((xa 7), .inl (dA 4, 8, .inr (.inr (.inr (.inr (va_up (fun k => some (rm k)) jt (some ra_6)))))))] H := hP
        have hD : va_D A [(na_4, .inl (dA 1, 5, .inr (.inl (vp_updL (vp_updL (vp_updL (fun _ => 0) 0 (((2 : Int64) * x9.toInt64) * d9.toInt64)) 1 ((((x9.toInt64 * x9.toInt64) + (y9.toInt64 * y9.toInt64)) + (z9.toInt64 * z9.toInt64)) - (d9.toInt64 * d9.toInt64))) 2 ((((x9.toInt64 * x9.toInt64) + (y9.toInt64 * y9.toInt64)) + (z9.toInt64 * z9.toInt64)) + (d9.toInt64 * d9.toInt64)))))), (ra_6, .inr (0, [.ref mr_6, .long (M_6 0)])), (mr_6, .inl (dA 1, 32, .inr (.inl (fun j => M_6 (j + 1))))), ((xa 7), .inl (dA 4, 8, .inr (.inr (.inr (.inr (va_up (fun k => some (rm k)) jt (some ra_6)))))))] := hD
        have e8 : rg (nI jt) = jt := rg_n (by omega)
        subst hQe
        refine vx_ret ?_
        refine W.widen (k := 14) (n := 160) (by first | decide | omega) (by first | decide | omega) ?_
        exact W.iret (v := nI (trmS M_6)) hx hb hr (fun tz ht hW => ⟨⟨_, (ra_6, mr_6, M_6), rfl, ⟨pt_o h7jt hpB hcf (pt_f (pt_v2 hyz) hp4 e_6), rfl⟩, B1_at ht (by rw [e8]; exact hP.sub [3] rfl) (by rw [e8]; exact hD.sub [3] (by decide) rfl) (⟨hP.sub [1, 2] rfl, Or.inl ⟨fresh_of hD hAf 3 1 rfl rfl (by decide), fresh_of hD hAf 3 2 rfl rfl (by decide)⟩⟩)⟩, hS.F ht⟩) hS.2.2 dX1_point_253
      · have hyz := pt_yz3 hcz
        refine lv_iconst (v := nI 5) hx hb dX1_point_121 (by decide) ?_
        refine a_newa (D := (dC, dI)) (atype := .long) (N' := 5) (a0 := (5, .inr (.inl (fun _ => 0)))) hx hb (hts _ q542) rfl hK hP hD hS hA 1 rfl (fun _ => ra_long) (fun _ => rfl) (by decide) (by decide) (by decide) (by first | decide | omega) (by first | decide | omega) dX1_point_122 (fun na_8 H locs hP hD hS => ?_)
        have hP : va_P (dC, dI) vwCl [((xa 7), .inl (dA 4, 8, .inr (.inr (.inr (.inr (fun k => some (rm k))))))), (na_8, .inl (dA 1, 5, .inr (.inl (fun _ => 0))))] H := hP
        have hD : va_D A [((xa 7), .inl (dA 4, 8, .inr (.inr (.inr (.inr (fun k => some (rm k))))))), (na_8, .inl (dA 1, 5, .inr (.inl (fun _ => 0))))] := hD
        refine lv_astore (lv' := [(6, .ref na_8), (0, .ref (xa 0)), (1, .int (nI jt)), (2, .int x9), (3, .int y9), (4, .int z9), (5, .int d9)]) hx hb dX1_point_124 hl (by decide) rfl (fun ls hl => ?_)
        refine lv_iload hx hb dX1_point_126 (lv_at hl 6 rfl) ?_
        refine lv_i2l (v := d9.toInt64) hx hb dX1_point_128 rfl ?_
        refine lv_lstore (lv' := [(7, .long d9.toInt64), (6, .ref na_8), (0, .ref (xa 0)), (1, .int (nI jt)), (2, .int x9), (3, .int y9), (4, .int z9), (5, .int d9)]) hx hb dX1_point_129 hl (by decide) rfl (fun ls hl => ?_)
        refine lv_iload_n hx hb dX1_point_131 rfl (lv_at hl 4 rfl) ?_
        refine lv_i2l (v := x9.toInt64) hx hb dX1_point_132 rfl ?_
        refine lv_iload_n hx hb dX1_point_133 rfl (lv_at hl 4 rfl) ?_
        refine lv_i2l (v := x9.toInt64) hx hb dX1_point_134 rfl ?_
        refine lv_lmul hx hb dX1_point_135 ?_
        refine lv_iload_n hx hb dX1_point_136 rfl (lv_at hl 5 rfl) ?_
        refine lv_i2l (v := y9.toInt64) hx hb dX1_point_137 rfl ?_
        refine lv_iload_n hx hb dX1_point_138 rfl (lv_at hl 5 rfl) ?_
        refine lv_i2l (v := y9.toInt64) hx hb dX1_point_139 rfl ?_
        refine lv_lmul hx hb dX1_point_140 ?_
        refine lv_ladd hx hb dX1_point_141 ?_
        refine lv_iload hx hb dX1_point_142 (lv_at hl 6 rfl) ?_
        refine lv_i2l (v := z9.toInt64) hx hb dX1_point_144 rfl ?_
        refine lv_iload hx hb dX1_point_145 (lv_at hl 6 rfl) ?_
        refine lv_i2l (v := z9.toInt64) hx hb dX1_point_147 rfl ?_
        refine lv_lmul hx hb dX1_point_148 ?_
        refine lv_ladd hx hb dX1_point_149 ?_
        refine lv_lstore (lv' := [(9, .long (((x9.toInt64 * x9.toInt64) + (y9.toInt64 * y9.toInt64)) + (z9.toInt64 * z9.toInt64))), (7, .long d9.toInt64), (6, .ref na_8), (0, .ref (xa 0)), (1, .int (nI jt)), (2, .int x9), (3, .int y9), (4, .int z9), (5, .int d9)]) hx hb dX1_point_150 hl (by decide) rfl (fun ls hl => ?_)
        refine lv_aload_n hx hb dX1_point_152 rfl (lv_at hl 3 rfl) ?_
        refine s_i (va_runV (As := []) (rest := []) ⟨hx, hb, hml, hown, hts⟩ (x1_dimensions Z Y xa tl ec ep ga sg 3 1 0 (by decide)) (cwV 0 hts (lw_V q1138 q1140 qs13 q96 q1141) rfl rfl rfl (by decide +kernel) ⟨Nat.le_of_ble_eq_true rfl, Nat.le_of_ble_eq_true rfl⟩) (gP_V (va_recv hK (hR0.up hS) (ci := 3) (q0 := 0) rfl rfl) hG hS (fun q _ h => h.elim) (va_P.app ((hR0.up hS).sub (ws' := [((xa 0), .inr (3, xFs xa tl ec ep)), ((xa 3), .inr (4, [.ref ga, .ref (xa 7)]))]) [0, 1] rfl) ((hR1.up hS).sub (ws' := [(ga, .inr (1, [.int (nI 3), .int (nI 1), .int (nI 0), .int (nI (3 + 1 + 0)), .int (nI (2 ^ (3 + 1 + 0) - 1)), .ref sg]))]) [0] rfl))) rfl rfl hl.1 rfl (lv_room (Nat.le_of_ble_eq_true rfl)) dX1_point_153 ⟨by first | decide | omega | (show _ ≤ (14 : Nat); omega), by first | decide | omega | (show _ ≤ (160 : Nat); omega)⟩) ?_
        refine e_i (y := nI 2) (rfl) ?_
        refine lv_istore (lv' := [(11, .int (nI 2)), (9, .long (((x9.toInt64 * x9.toInt64) + (y9.toInt64 * y9.toInt64)) + (z9.toInt64 * z9.toInt64))), (7, .long d9.toInt64), (6, .ref na_8), (0, .ref (xa 0)), (1, .int (nI jt)), (2, .int x9), (3, .int y9), (4, .int z9), (5, .int d9)]) hx hb dX1_point_156 hl (by decide) rfl (fun ls hl => ?_)
        refine lv_aload hx hb dX1_point_158 (lv_at hl 3 rfl) ?_
        refine lv_iconst (v := nI 0) hx hb dX1_point_160 (by decide) ?_
        refine lv_ldc2 hx hb hown (hts _ q1136) dX1_point_161 ?_
        refine lv_iload_n hx hb dX1_point_164 rfl (lv_at hl 6 rfl) ?_
        refine lv_i2l (v := x9.toInt64) hx hb dX1_point_165 rfl ?_
        refine lv_lmul hx hb dX1_point_166 ?_
        refine lv_lload hx hb dX1_point_167 (lv_at hl 2 rfl) ?_
        refine lv_lmul hx hb dX1_point_169 ?_
        refine a_last hx hb hK hP hD hS 1 1 rfl rfl (by omega) (by omega) dX1_point_170 (fun H locs hP hD hS => ?_)
        have hP : va_P (dC, dI) vwCl [((xa 7), .inl (dA 4, 8, .inr (.inr (.inr (.inr (fun k => some (rm k))))))), (na_8, .inl (dA 1, 5, .inr (.inl (vp_updL (fun _ => 0) 0 (((2 : Int64) * x9.toInt64) * d9.toInt64)))))] H := hP
        have hD : va_D A [((xa 7), .inl (dA 4, 8, .inr (.inr (.inr (.inr (fun k => some (rm k))))))), (na_8, .inl (dA 1, 5, .inr (.inl (vp_updL (fun _ => 0) 0 (((2 : Int64) * x9.toInt64) * d9.toInt64)))))] := hD
        refine lv_iload hx hb dX1_point_171 (lv_at hl 0 rfl) ?_
        refine lv_iconst (v := nI 1) hx hb dX1_point_173 (by decide) ?_
        refine lv_icmp_le (tgt := 190) hx hb dX1_point_174 (by decide) (fun c_174 => ?_) (fun c_174 => ?_)
        · exact absurd c_174 (by decide)
        refine lv_aload hx hb dX1_point_177 (lv_at hl 3 rfl) ?_
        refine lv_iconst (v := nI 1) hx hb dX1_point_179 (by decide) ?_
        refine lv_ldc2 hx hb hown (hts _ q1136) dX1_point_180 ?_
        refine lv_iload_n hx hb dX1_point_183 rfl (lv_at hl 7 rfl) ?_
        refine lv_i2l (v := y9.toInt64) hx hb dX1_point_184 rfl ?_
        refine lv_lmul hx hb dX1_point_185 ?_
        refine lv_lload hx hb dX1_point_186 (lv_at hl 2 rfl) ?_
        refine lv_lmul hx hb dX1_point_188 ?_
        refine a_last hx hb hK hP hD hS 1 1 rfl rfl (by omega) (by omega) dX1_point_189 (fun H locs hP hD hS => ?_)
        have hP : va_P (dC, dI) vwCl [((xa 7), .inl (dA 4, 8, .inr (.inr (.inr (.inr (fun k => some (rm k))))))), (na_8, .inl (dA 1, 5, .inr (.inl (vp_updL (vp_updL (fun _ => 0) 0 (((2 : Int64) * x9.toInt64) * d9.toInt64)) 1 (((2 : Int64) * y9.toInt64) * d9.toInt64)))))] H := hP
        have hD : va_D A [((xa 7), .inl (dA 4, 8, .inr (.inr (.inr (.inr (fun k => some (rm k))))))), (na_8, .inl (dA 1, 5, .inr (.inl (vp_updL (vp_updL (fun _ => 0) 0 (((2 : Int64) * x9.toInt64) * d9.toInt64)) 1 (((2 : Int64) * y9.toInt64) * d9.toInt64)))))] := hD
        refine lv_iload hx hb dX1_point_190 (lv_at hl 0 rfl) ?_
        refine lv_iconst (v := nI 2) hx hb dX1_point_192 (by decide) ?_
        refine lv_icmp_le (tgt := 210) hx hb dX1_point_193 (by decide) (fun c_193 => ?_) (fun c_193 => ?_)
        rotate_left
        · exact absurd (by decide) c_193
        refine lv_aload hx hb dX1_point_210 (lv_at hl 3 rfl) ?_
        refine lv_iload hx hb dX1_point_212 (lv_at hl 0 rfl) ?_
        refine lv_lload hx hb dX1_point_214 (lv_at hl 1 rfl) ?_
        refine lv_lload hx hb dX1_point_216 (lv_at hl 2 rfl) ?_
        refine lv_lload hx hb dX1_point_218 (lv_at hl 2 rfl) ?_
        refine lv_lmul hx hb dX1_point_220 ?_
        refine lv_lsub hx hb dX1_point_221 ?_
        refine a_last hx hb hK hP hD hS 1 1 rfl rfl (by omega) (by omega) dX1_point_222 (fun H locs hP hD hS => ?_)
        have hP : va_P (dC, dI) vwCl [((xa 7), .inl (dA 4, 8, .inr (.inr (.inr (.inr (fun k => some (rm k))))))), (na_8, .inl (dA 1, 5, .inr (.inl (vp_updL (vp_updL (vp_updL (fun _ => 0) 0 (((2 : Int64) * x9.toInt64) * d9.toInt64)) 1 (((2 : Int64) * y9.toInt64) * d9.toInt64)) 2 ((((x9.toInt64 * x9.toInt64) + (y9.toInt64 * y9.toInt64)) + (z9.toInt64 * z9.toInt64)) - (d9.toInt64 * d9.toInt64))))))] H := hP
        have hD : va_D A [((xa 7), .inl (dA 4, 8, .inr (.inr (.inr (.inr (fun k => some (rm k))))))), (na_8, .inl (dA 1, 5, .inr (.inl (vp_updL (vp_updL (vp_updL (fun _ => 0) 0 (((2 : Int64) * x9.toInt64) * d9.toInt64)) 1 (((2 : Int64) * y9.toInt64) * d9.toInt64)) 2 ((((x9.toInt64 * x9.toInt64) + (y9.toInt64 * y9.toInt64)) + (z9.toInt64 * z9.toInt64)) - (d9.toInt64 * d9.toInt64))))))] := hD
        refine lv_aload hx hb dX1_point_223 (lv_at hl 3 rfl) ?_
        refine lv_iload hx hb dX1_point_225 (lv_at hl 0 rfl) ?_
        refine lv_iconst (v := nI 1) hx hb dX1_point_227 (by decide) ?_
        refine lv_iadd hx hb dX1_point_228 ?_
        refine e_i (y := nI 3) (nI_add _ _) ?_
        refine lv_lload hx hb dX1_point_229 (lv_at hl 1 rfl) ?_
        refine lv_lload hx hb dX1_point_231 (lv_at hl 2 rfl) ?_
        refine lv_lload hx hb dX1_point_233 (lv_at hl 2 rfl) ?_
        refine lv_lmul hx hb dX1_point_235 ?_
        refine lv_ladd hx hb dX1_point_236 ?_
        refine a_last hx hb hK hP hD hS 1 1 rfl rfl (by omega) (by omega) dX1_point_237 (fun H locs hP hD hS => ?_)
        have hP : va_P (dC, dI) vwCl [((xa 7), .inl (dA 4, 8, .inr (.inr (.inr (.inr (fun k => some (rm k))))))), (na_8, .inl (dA 1, 5, .inr (.inl (vp_updL (vp_updL (vp_updL (vp_updL (fun _ => 0) 0 (((2 : Int64) * x9.toInt64) * d9.toInt64)) 1 (((2 : Int64) * y9.toInt64) * d9.toInt64)) 2 ((((x9.toInt64 * x9.toInt64) + (y9.toInt64 * y9.toInt64)) + (z9.toInt64 * z9.toInt64)) - (d9.toInt64 * d9.toInt64))) 3 ((((x9.toInt64 * x9.toInt64) + (y9.toInt64 * y9.toInt64)) + (z9.toInt64 * z9.toInt64)) + (d9.toInt64 * d9.toInt64))))))] H := hP
        have hD : va_D A [((xa 7), .inl (dA 4, 8, .inr (.inr (.inr (.inr (fun k => some (rm k))))))), (na_8, .inl (dA 1, 5, .inr (.inl (vp_updL (vp_updL (vp_updL (vp_updL (fun _ => 0) 0 (((2 : Int64) * x9.toInt64) * d9.toInt64)) 1 (((2 : Int64) * y9.toInt64) * d9.toInt64)) 2 ((((x9.toInt64 * x9.toInt64) + (y9.toInt64 * y9.toInt64)) + (z9.toInt64 * z9.toInt64)) - (d9.toInt64 * d9.toInt64))) 3 ((((x9.toInt64 * x9.toInt64) + (y9.toInt64 * y9.toInt64)) + (z9.toInt64 * z9.toInt64)) + (d9.toInt64 * d9.toInt64))))))] := hD
        refine lv_aload_n hx hb dX1_point_238 rfl (lv_at hl 4 rfl) ?_
        refine lv_iload_n hx hb dX1_point_239 rfl (lv_at hl 5 rfl) ?_
        refine lv_aload hx hb dX1_point_240 (lv_at hl 3 rfl) ?_
        refine lv_lload hx hb dX1_point_242 (lv_at hl 2 rfl) ?_
        refine lv_lload hx hb dX1_point_244 (lv_at hl 2 rfl) ?_
        refine lv_lmul hx hb dX1_point_246 ?_
        have hF9 := va_free (wc := []) hD hS (fun q h => hA q h) [] rfl
        refine x_r (wc := []) (wr := [((xa 7), .inl (dA 4, 8, .inr (.inr (.inr (.inr (fun k => some (rm k))))))), (na_8, .inl (dA 1, 5, .inr (.inl (vp_updL (vp_updL (vp_updL (vp_updL (fun _ => 0) 0 (((2 : Int64) * x9.toInt64) * d9.toInt64)) 1 (((2 : Int64) * y9.toInt64) * d9.toInt64)) 2 ((((x9.toInt64 * x9.toInt64) + (y9.toInt64 * y9.toInt64)) + (z9.toInt64 * z9.toInt64)) - (d9.toInt64 * d9.toInt64))) 3 ((((x9.toInt64 * x9.toInt64) + (y9.toInt64 * y9.toInt64)) + (z9.toInt64 * z9.toInt64)) + (d9.toInt64 * d9.toInt64))))))]) (vx_runS (As := [.ref na_8, .long (d9.toInt64 * d9.toInt64)]) (rest := [.int (nI jt), .ref (xa 0)]) ⟨hx, hb, hml, hown, hts⟩ (x1_vector Z (va_A [] H.size) H.size (fun q h => Or.inr h) Y na_8 (vp_updL (vp_updL (vp_updL (vp_updL (fun _ => 0) 0 (((2 : Int64) * x9.toInt64) * d9.toInt64)) 1 (((2 : Int64) * y9.toInt64) * d9.toInt64)) 2 ((((x9.toInt64 * x9.toInt64) + (y9.toInt64 * y9.toInt64)) + (z9.toInt64 * z9.toInt64)) - (d9.toInt64 * d9.toInt64))) 3 ((((x9.toInt64 * x9.toInt64) + (y9.toInt64 * y9.toInt64)) + (z9.toInt64 * z9.toInt64)) + (d9.toInt64 * d9.toInt64))) (d9.toInt64 * d9.toInt64) (pt_u hp4).1 (pt_u hp4).2 (pt_nm (by decide) (pt_v3 hyz) hpB)) (va_cwS 2 hts (lw_S q900 q901 q96 q902) rfl rfl rfl (by decide +kernel) ⟨Nat.le_of_ble_eq_true rfl, Nat.le_of_ble_eq_true rfl⟩) (gP_S hG hS (fun q _ h => hF9 q h) ⟨rfl, (RO.beside (wr := [(na_8, .inl (dA 1, 5, .inr (.inl (vp_updL (vp_updL (vp_updL (vp_updL (fun _ => 0) 0 (((2 : Int64) * x9.toInt64) * d9.toInt64)) 1 (((2 : Int64) * y9.toInt64) * d9.toInt64)) 2 ((((x9.toInt64 * x9.toInt64) + (y9.toInt64 * y9.toInt64)) + (z9.toInt64 * z9.toInt64)) - (d9.toInt64 * d9.toInt64))) 3 ((((x9.toInt64 * x9.toInt64) + (y9.toInt64 * y9.toInt64)) + (z9.toInt64 * z9.toInt64)) + (d9.toInt64 * d9.toInt64))))))]) hP hD [] [1] rfl rfl (by decide))⟩) rfl rfl hl.1 rfl (lv_room (Nat.le_of_ble_eq_true rfl)) dX1_point_247 ⟨by first | decide | omega | (show _ ≤ (14 : Nat); omega), by first | decide | omega | (show _ ≤ (160 : Nat); omega)⟩) hP hD hS hA [] [0, 1] rfl rfl (by decide) (by decide) (fun E ce q9 u9 t9 H locs ht9 hp9 hb9 hz hP hS h1 h2 h3 => ?_) (fun u9 ra9 H locs hq hX hz hk hP hD hS => ?_)
        · have hD := hD.sub (ws' := [((xa 7), .inl (dA 4, 8, .inr (.inr (.inr (.inr (fun k => some (rm k))))))), (na_8, .inl (dA 1, 5, .inr (.inl (vp_updL (vp_updL (vp_updL (vp_updL (fun _ => 0) 0 (((2 : Int64) * x9.toInt64) * d9.toInt64)) 1 (((2 : Int64) * y9.toInt64) * d9.toInt64)) 2 ((((x9.toInt64 * x9.toInt64) + (y9.toInt64 * y9.toInt64)) + (z9.toInt64 * z9.toInt64)) - (d9.toInt64 * d9.toInt64))) 3 ((((x9.toInt64 * x9.toInt64) + (y9.toInt64 * y9.toInt64)) + (z9.toInt64 * z9.toInt64)) + (d9.toInt64 * d9.toInt64))))))]) [0, 1] (by decide) rfl
          have hP : va_P (dC, dI) vwCl [((xa 7), .inl (dA 4, 8, .inr (.inr (.inr (.inr (fun k => some (rm k))))))), (na_8, .inl (dA 1, 5, .inr (.inl (vp_updL (vp_updL (vp_updL (vp_updL (fun _ => 0) 0 (((2 : Int64) * x9.toInt64) * d9.toInt64)) 1 (((2 : Int64) * y9.toInt64) * d9.toInt64)) 2 ((((x9.toInt64 * x9.toInt64) + (y9.toInt64 * y9.toInt64)) + (z9.toInt64 * z9.toInt64)) - (d9.toInt64 * d9.toInt64))) 3 ((((x9.toInt64 * x9.toInt64) + (y9.toInt64 * y9.toInt64)) + (z9.toInt64 * z9.toInt64)) + (d9.toInt64 * d9.toInt64))))))] H := hP
          have hD : va_D A [((xa 7), .inl (dA 4, 8, .inr (.inr (.inr (.inr (fun k => some (rm k))))))), (na_8, .inl (dA 1, 5, .inr (.inl (vp_updL (vp_updL (vp_updL (vp_updL (fun _ => 0) 0 (((2 : Int64) * x9.toInt64) * d9.toInt64)) 1 (((2 : Int64) * y9.toInt64) * d9.toInt64)) 2 ((((x9.toInt64 * x9.toInt64) + (y9.toInt64 * y9.toInt64)) + (z9.toInt64 * z9.toInt64)) - (d9.toInt64 * d9.toInt64))) 3 ((((x9.toInt64 * x9.toInt64) + (y9.toInt64 * y9.toInt64)) + (z9.toInt64 * z9.toInt64)) + (d9.toInt64 * d9.toInt64))))))] := hD
          subst hb9
          refine vx_catch (name := "BladeAlgebra$Unfit") (E := "BladeAlgebra$Unfit") (ce := ce) hown [] ⟨238, 253, 254, 179⟩ [] hxt (fun _ h => nomatch h) (by decide) (by decide) (hts _ q468) (castZ Z hG q523) h1 h2 h3 ?_
          have hpU := hp9
          refine lv_astore (lv' := [(12, .ref q9), (11, .int (nI 2)), (9, .long (((x9.toInt64 * x9.toInt64) + (y9.toInt64 * y9.toInt64)) + (z9.toInt64 * z9.toInt64))), (7, .long d9.toInt64), (6, .ref na_8), (0, .ref (xa 0)), (1, .int (nI jt)), (2, .int x9), (3, .int y9), (4, .int z9), (5, .int d9)]) hx hb dX1_point_254 hl (by decide) rfl (fun ls hl => ?_)
          have hF9 := va_free (wc := []) hD hS (fun q h => hA q h) [] rfl
          refine c_r (wr := [((xa 7), .inl (dA 4, 8, .inr (.inr (.inr (.inr (fun k => some (rm k))))))), (na_8, .inl (dA 1, 5, .inr (.inl (vp_updL (vp_updL (vp_updL (vp_updL (fun _ => 0) 0 (((2 : Int64) * x9.toInt64) * d9.toInt64)) 1 (((2 : Int64) * y9.toInt64) * d9.toInt64)) 2 ((((x9.toInt64 * x9.toInt64) + (y9.toInt64 * y9.toInt64)) + (z9.toInt64 * z9.toInt64)) - (d9.toInt64 * d9.toInt64))) 3 ((((x9.toInt64 * x9.toInt64) + (y9.toInt64 * y9.toInt64)) + (z9.toInt64 * z9.toInt64)) + (d9.toInt64 * d9.toInt64))))))]) (va_runS (As := []) (rest := []) ⟨hx, hb, hml, hown, hts⟩ (x1_large Z (va_A [] H.size) H.size (fun q h => Or.inr h) Y) (va_cwS 0 hts (lw_S q562 q563 q96 q564) rfl rfl rfl (by decide +kernel) ⟨Nat.le_of_ble_eq_true rfl, Nat.le_of_ble_eq_true rfl⟩) (gP_S hG hS (fun q _ h => hF9 q h) rfl) rfl rfl hl.1 rfl (lv_room (Nat.le_of_ble_eq_true rfl)) dX1_point_256 ⟨by first | decide | omega | (show _ ≤ (14 : Nat); omega), by first | decide | omega | (show _ ≤ (160 : Nat); omega)⟩) hP hD hS hA [] [0, 1] rfl rfl (by decide) (by decide) (fun u9 ra9 H locs hq hX hz hk hP hD hS => ?_)
          obtain ⟨ra_9, rfl⟩ : ∃ z, z = ra9 := ⟨_, rfl⟩
          have hP : va_P (dC, dI) vwCl [((xa 7), .inl (dA 4, 8, .inr (.inr (.inr (.inr (fun k => some (rm k))))))), (na_8, .inl (dA 1, 5, .inr (.inl (vp_updL (vp_updL (vp_updL (vp_updL (fun _ => 0) 0 (((2 : Int64) * x9.toInt64) * d9.toInt64)) 1 (((2 : Int64) * y9.toInt64) * d9.toInt64)) 2 ((((x9.toInt64 * x9.toInt64) + (y9.toInt64 * y9.toInt64)) + (z9.toInt64 * z9.toInt64)) - (d9.toInt64 * d9.toInt64))) 3 ((((x9.toInt64 * x9.toInt64) + (y9.toInt64 * y9.toInt64)) + (z9.toInt64 * z9.toInt64)) + (d9.toInt64 * d9.toInt64)))))), (ra_9, .inr (17, []))] H := hP
          have hD : va_D A [((xa 7), .inl (dA 4, 8, .inr (.inr (.inr (.inr (fun k => some (rm k))))))), (na_8, .inl (dA 1, 5, .inr (.inl (vp_updL (vp_updL (vp_updL (vp_updL (fun _ => 0) 0 (((2 : Int64) * x9.toInt64) * d9.toInt64)) 1 (((2 : Int64) * y9.toInt64) * d9.toInt64)) 2 ((((x9.toInt64 * x9.toInt64) + (y9.toInt64 * y9.toInt64)) + (z9.toInt64 * z9.toInt64)) - (d9.toInt64 * d9.toInt64))) 3 ((((x9.toInt64 * x9.toInt64) + (y9.toInt64 * y9.toInt64)) + (z9.toInt64 * z9.toInt64)) + (d9.toInt64 * d9.toInt64)))))), (ra_9, .inr (17, []))] := hD
          refine vx_athrow hx hb dX1_point_259 ?_
          obtain ⟨ce, h1, h2, h3⟩ := va_thr hK hP (ci := 17) (q0 := 2) rfl rfl
          subst hQe
          exact vx_outP hown hlocks (by rw [hxt]; exact (List.forall_mem_cons.mpr ⟨Or.inl (by decide), (fun _ h => nomatch h)⟩)) h1 h2 h3 (fun t10 e10 _ => ⟨(), trivial, (⟨Or.inr (Or.inr (Or.inr (⟨rfl, pt_o h7jt hpB hcf (pt_f (pt_v3 hyz) hp4 hpU)⟩))), by rw [e10]; exact hP.sub (ws' := [((xa 7), .inl (dA 4, 8, .inr (.inr (.inr (.inr (fun k => some (rm k)))))))]) [0] rfl⟩ : (_ ∧ _)), hS.F e10⟩) hS.2.2 (by first | decide | omega) (by first | decide | omega)
        obtain ⟨ra_10, rfl⟩ : ∃ z, z = ra9 := ⟨_, rfl⟩
        obtain ⟨mr_10, M_10⟩ := u9
        have e_10 := hq
        have sm_10 : MSm M_10 := fitG_sm (pt_u hp4).1 (pt_u hp4).2 e_10
        clear hq
        have hP : va_P (dC, dI) vwCl [((xa 7), .inl (dA 4, 8, .inr (.inr (.inr (.inr (fun k => some (rm k))))))), (na_8, .inl (dA 1, 5, .inr (.inl (vp_updL (vp_updL (vp_updL (vp_updL (fun _ => 0) 0 (((2 : Int64) * x9.toInt64) * d9.toInt64)) 1 (((2 : Int64) * y9.toInt64) * d9.toInt64)) 2 ((((x9.toInt64 * x9.toInt64) + (y9.toInt64 * y9.toInt64)) + (z9.toInt64 * z9.toInt64)) - (d9.toInt64 * d9.toInt64))) 3 ((((x9.toInt64 * x9.toInt64) + (y9.toInt64 * y9.toInt64)) + (z9.toInt64 * z9.toInt64)) + (d9.toInt64 * d9.toInt64)))))), (ra_10, .inr (0, [.ref mr_10, .long (M_10 0)])), (mr_10, .inl (dA 1, 32, .inr (.inl (fun j => M_10 (j + 1)))))] H := hP
        have hD : va_D A [((xa 7), .inl (dA 4, 8, .inr (.inr (.inr (.inr (fun k => some (rm k))))))), (na_8, .inl (dA 1, 5, .inr (.inl (vp_updL (vp_updL (vp_updL (vp_updL (fun _ => 0) 0 (((2 : Int64) * x9.toInt64) * d9.toInt64)) 1 (((2 : Int64) * y9.toInt64) * d9.toInt64)) 2 ((((x9.toInt64 * x9.toInt64) + (y9.toInt64 * y9.toInt64)) + (z9.toInt64 * z9.toInt64)) - (d9.toInt64 * d9.toInt64))) 3 ((((x9.toInt64 * x9.toInt64) + (y9.toInt64 * y9.toInt64)) + (z9.toInt64 * z9.toInt64)) + (d9.toInt64 * d9.toInt64)))))), (ra_10, .inr (0, [.ref mr_10, .long (M_10 0)])), (mr_10, .inl (dA 1, 32, .inr (.inl (fun j => M_10 (j + 1)))))] := hD
        have hF9 := va_free (wc := [((xa 7), .inl (dA 4, 8, .inr (.inr (.inr (.inr (fun k => some (rm k)))))))]) hD hS (fun q h => hA q h) [0] rfl
        refine c_i (wr := [(na_8, .inl (dA 1, 5, .inr (.inl (vp_updL (vp_updL (vp_updL (vp_updL (fun _ => 0) 0 (((2 : Int64) * x9.toInt64) * d9.toInt64)) 1 (((2 : Int64) * y9.toInt64) * d9.toInt64)) 2 ((((x9.toInt64 * x9.toInt64) + (y9.toInt64 * y9.toInt64)) + (z9.toInt64 * z9.toInt64)) - (d9.toInt64 * d9.toInt64))) 3 ((((x9.toInt64 * x9.toInt64) + (y9.toInt64 * y9.toInt64)) + (z9.toInt64 * z9.toInt64)) + (d9.toInt64 * d9.toInt64)))))), (ra_10, .inr (0, [.ref mr_10, .long (M_10 0)])), (mr_10, .inl (dA 1, 32, .inr (.inl (fun j => M_10 (j + 1)))))]) (va_runV (As := [.int (nI jt), .ref ra_10]) (rest := []) ⟨hx, hb, hml, hown, hts⟩ (x1_store Z (va_A [((xa 7), .inl (dA 4, 8, .inr (.inr (.inr (.inr (fun k => some (rm k)))))))] H.size) H.size (fun q h => Or.inr h) Y xa tl ec ep ga (fun k => some (rm k)) jt ra_10 mr_10 M_10 (by omega)) (cwV 2 hts (lw_V q731 q733 qs6 q96 q734) rfl rfl rfl (by decide +kernel) ⟨Nat.le_of_ble_eq_true rfl, Nat.le_of_ble_eq_true rfl⟩) (gP_V (va_recv hK (hR0.up hS) (ci := 3) (q0 := 0) rfl rfl) hG hS (fun q _ h => hF9 q h) ⟨rfl, (hP.sub (ws' := [((xa 7), .inl (dA 4, 8, .inr (.inr (.inr (.inr (fun k => some (rm k)))))))]) [0] rfl), (hD.sub (ws' := [((xa 7), .inl (dA 4, 8, .inr (.inr (.inr (.inr (fun k => some (rm k)))))))]) [0] (by decide) rfl).self, (hR0.to hS (fun q _ h => hF9 q h)), (RO.beside (wr := [(ra_10, .inr (0, [.ref mr_10, .long (M_10 0)])), (mr_10, .inl (dA 1, 32, .inr (.inl (fun j => M_10 (j + 1)))))]) hP hD [0] [2, 3] rfl rfl (by decide))⟩) rfl rfl hl.1 rfl (lv_room (Nat.le_of_ble_eq_true rfl)) dX1_point_250 ⟨by first | decide | omega | (show _ ≤ (14 : Nat); omega), by first | decide | omega | (show _ ≤ (160 : Nat); omega)⟩) hP hD hS hA [0] [1, 2, 3] rfl rfl (by decide) (by decide) (fun r9 u9 H locs hq hX hz hk hP hD hS => ?_)
        obtain ⟨r_11, rfl⟩ : ∃ z, z = r9 := ⟨_, rfl⟩
        subst hq
        have hP : va_P (dC, dI) vwCl [(na_8, .inl (dA 1, 5, .inr (.inl (vp_updL (vp_updL (vp_updL (vp_updL (fun _ => 0) 0 (((2 : Int64) * x9.toInt64) * d9.toInt64)) 1 (((2 : Int64) * y9.toInt64) * d9.toInt64)) 2 ((((x9.toInt64 * x9.toInt64) + (y9.toInt64 * y9.toInt64)) + (z9.toInt64 * z9.toInt64)) - (d9.toInt64 * d9.toInt64))) 3 ((((x9.toInt64 * x9.toInt64) + (y9.toInt64 * y9.toInt64)) + (z9.toInt64 * z9.toInt64)) + (d9.toInt64 * d9.toInt64)))))), (ra_10, .inr (0, [.ref mr_10, .long (M_10 0)])), (mr_10, .inl (dA 1, 32, .inr (.inl (fun j => M_10 (j + 1))))), ((xa 7), .inl (dA 4, 8, .inr (.inr (.inr (.inr (va_up (fun k => some (rm k)) jt (some ra_10)))))))] H := hP
        have hD : va_D A [(na_8, .inl (dA 1, 5, .inr (.inl (vp_updL (vp_updL (vp_updL (vp_updL (fun _ => 0) 0 (((2 : Int64) * x9.toInt64) * d9.toInt64)) 1 (((2 : Int64) * y9.toInt64) * d9.toInt64)) 2 ((((x9.toInt64 * x9.toInt64) + (y9.toInt64 * y9.toInt64)) + (z9.toInt64 * z9.toInt64)) - (d9.toInt64 * d9.toInt64))) 3 ((((x9.toInt64 * x9.toInt64) + (y9.toInt64 * y9.toInt64)) + (z9.toInt64 * z9.toInt64)) + (d9.toInt64 * d9.toInt64)))))), (ra_10, .inr (0, [.ref mr_10, .long (M_10 0)])), (mr_10, .inl (dA 1, 32, .inr (.inl (fun j => M_10 (j + 1))))), ((xa 7), .inl (dA 4, 8, .inr (.inr (.inr (.inr (va_up (fun k => some (rm k)) jt (some ra_10)))))))] := hD
        have e8 : rg (nI jt) = jt := rg_n (by omega)
        subst hQe
        refine vx_ret ?_
        refine W.widen (k := 14) (n := 160) (by first | decide | omega) (by first | decide | omega) ?_
        exact W.iret (v := nI (trmS M_10)) hx hb hr (fun tz ht hW => ⟨⟨_, (ra_10, mr_10, M_10), rfl, ⟨pt_o h7jt hpB hcf (pt_f (pt_v3 hyz) hp4 e_10), rfl⟩, B1_at ht (by rw [e8]; exact hP.sub [3] rfl) (by rw [e8]; exact hD.sub [3] (by decide) rfl) (⟨hP.sub [1, 2] rfl, Or.inl ⟨fresh_of hD hAf 3 1 rfl rfl (by decide), fresh_of hD hAf 3 2 rfl rfl (by decide)⟩⟩)⟩, hS.F ht⟩) hS.2.2 dX1_point_253
      · have hyz := pt_yz4 hcz
        refine lv_iconst (v := nI 5) hx hb dX1_point_121 (by decide) ?_
        refine a_newa (D := (dC, dI)) (atype := .long) (N' := 5) (a0 := (5, .inr (.inl (fun _ => 0)))) hx hb (hts _ q542) rfl hK hP hD hS hA 1 rfl (fun _ => ra_long) (fun _ => rfl) (by decide) (by decide) (by decide) (by first | decide | omega) (by first | decide | omega) dX1_point_122 (fun na_12 H locs hP hD hS => ?_)
        have hP : va_P (dC, dI) vwCl [((xa 7), .inl (dA 4, 8, .inr (.inr (.inr (.inr (fun k => some (rm k))))))), (na_12, .inl (dA 1, 5, .inr (.inl (fun _ => 0))))] H := hP
        have hD : va_D A [((xa 7), .inl (dA 4, 8, .inr (.inr (.inr (.inr (fun k => some (rm k))))))), (na_12, .inl (dA 1, 5, .inr (.inl (fun _ => 0))))] := hD
        refine lv_astore (lv' := [(6, .ref na_12), (0, .ref (xa 0)), (1, .int (nI jt)), (2, .int x9), (3, .int y9), (4, .int z9), (5, .int d9)]) hx hb dX1_point_124 hl (by decide) rfl (fun ls hl => ?_)
        refine lv_iload hx hb dX1_point_126 (lv_at hl 6 rfl) ?_
        refine lv_i2l (v := d9.toInt64) hx hb dX1_point_128 rfl ?_
        refine lv_lstore (lv' := [(7, .long d9.toInt64), (6, .ref na_12), (0, .ref (xa 0)), (1, .int (nI jt)), (2, .int x9), (3, .int y9), (4, .int z9), (5, .int d9)]) hx hb dX1_point_129 hl (by decide) rfl (fun ls hl => ?_)
        refine lv_iload_n hx hb dX1_point_131 rfl (lv_at hl 4 rfl) ?_
        refine lv_i2l (v := x9.toInt64) hx hb dX1_point_132 rfl ?_
        refine lv_iload_n hx hb dX1_point_133 rfl (lv_at hl 4 rfl) ?_
        refine lv_i2l (v := x9.toInt64) hx hb dX1_point_134 rfl ?_
        refine lv_lmul hx hb dX1_point_135 ?_
        refine lv_iload_n hx hb dX1_point_136 rfl (lv_at hl 5 rfl) ?_
        refine lv_i2l (v := y9.toInt64) hx hb dX1_point_137 rfl ?_
        refine lv_iload_n hx hb dX1_point_138 rfl (lv_at hl 5 rfl) ?_
        refine lv_i2l (v := y9.toInt64) hx hb dX1_point_139 rfl ?_
        refine lv_lmul hx hb dX1_point_140 ?_
        refine lv_ladd hx hb dX1_point_141 ?_
        refine lv_iload hx hb dX1_point_142 (lv_at hl 6 rfl) ?_
        refine lv_i2l (v := z9.toInt64) hx hb dX1_point_144 rfl ?_
        refine lv_iload hx hb dX1_point_145 (lv_at hl 6 rfl) ?_
        refine lv_i2l (v := z9.toInt64) hx hb dX1_point_147 rfl ?_
        refine lv_lmul hx hb dX1_point_148 ?_
        refine lv_ladd hx hb dX1_point_149 ?_
        refine lv_lstore (lv' := [(9, .long (((x9.toInt64 * x9.toInt64) + (y9.toInt64 * y9.toInt64)) + (z9.toInt64 * z9.toInt64))), (7, .long d9.toInt64), (6, .ref na_12), (0, .ref (xa 0)), (1, .int (nI jt)), (2, .int x9), (3, .int y9), (4, .int z9), (5, .int d9)]) hx hb dX1_point_150 hl (by decide) rfl (fun ls hl => ?_)
        refine lv_aload_n hx hb dX1_point_152 rfl (lv_at hl 3 rfl) ?_
        refine s_i (va_runV (As := []) (rest := []) ⟨hx, hb, hml, hown, hts⟩ (x1_dimensions Z Y xa tl ec ep ga sg 4 1 0 (by decide)) (cwV 0 hts (lw_V q1138 q1140 qs13 q96 q1141) rfl rfl rfl (by decide +kernel) ⟨Nat.le_of_ble_eq_true rfl, Nat.le_of_ble_eq_true rfl⟩) (gP_V (va_recv hK (hR0.up hS) (ci := 3) (q0 := 0) rfl rfl) hG hS (fun q _ h => h.elim) (va_P.app ((hR0.up hS).sub (ws' := [((xa 0), .inr (3, xFs xa tl ec ep)), ((xa 3), .inr (4, [.ref ga, .ref (xa 7)]))]) [0, 1] rfl) ((hR1.up hS).sub (ws' := [(ga, .inr (1, [.int (nI 4), .int (nI 1), .int (nI 0), .int (nI (4 + 1 + 0)), .int (nI (2 ^ (4 + 1 + 0) - 1)), .ref sg]))]) [0] rfl))) rfl rfl hl.1 rfl (lv_room (Nat.le_of_ble_eq_true rfl)) dX1_point_153 ⟨by first | decide | omega | (show _ ≤ (14 : Nat); omega), by first | decide | omega | (show _ ≤ (160 : Nat); omega)⟩) ?_
        refine e_i (y := nI 3) (rfl) ?_
        refine lv_istore (lv' := [(11, .int (nI 3)), (9, .long (((x9.toInt64 * x9.toInt64) + (y9.toInt64 * y9.toInt64)) + (z9.toInt64 * z9.toInt64))), (7, .long d9.toInt64), (6, .ref na_12), (0, .ref (xa 0)), (1, .int (nI jt)), (2, .int x9), (3, .int y9), (4, .int z9), (5, .int d9)]) hx hb dX1_point_156 hl (by decide) rfl (fun ls hl => ?_)
        refine lv_aload hx hb dX1_point_158 (lv_at hl 3 rfl) ?_
        refine lv_iconst (v := nI 0) hx hb dX1_point_160 (by decide) ?_
        refine lv_ldc2 hx hb hown (hts _ q1136) dX1_point_161 ?_
        refine lv_iload_n hx hb dX1_point_164 rfl (lv_at hl 6 rfl) ?_
        refine lv_i2l (v := x9.toInt64) hx hb dX1_point_165 rfl ?_
        refine lv_lmul hx hb dX1_point_166 ?_
        refine lv_lload hx hb dX1_point_167 (lv_at hl 2 rfl) ?_
        refine lv_lmul hx hb dX1_point_169 ?_
        refine a_last hx hb hK hP hD hS 1 1 rfl rfl (by omega) (by omega) dX1_point_170 (fun H locs hP hD hS => ?_)
        have hP : va_P (dC, dI) vwCl [((xa 7), .inl (dA 4, 8, .inr (.inr (.inr (.inr (fun k => some (rm k))))))), (na_12, .inl (dA 1, 5, .inr (.inl (vp_updL (fun _ => 0) 0 (((2 : Int64) * x9.toInt64) * d9.toInt64)))))] H := hP
        have hD : va_D A [((xa 7), .inl (dA 4, 8, .inr (.inr (.inr (.inr (fun k => some (rm k))))))), (na_12, .inl (dA 1, 5, .inr (.inl (vp_updL (fun _ => 0) 0 (((2 : Int64) * x9.toInt64) * d9.toInt64)))))] := hD
        refine lv_iload hx hb dX1_point_171 (lv_at hl 0 rfl) ?_
        refine lv_iconst (v := nI 1) hx hb dX1_point_173 (by decide) ?_
        refine lv_icmp_le (tgt := 190) hx hb dX1_point_174 (by decide) (fun c_174 => ?_) (fun c_174 => ?_)
        · exact absurd c_174 (by decide)
        refine lv_aload hx hb dX1_point_177 (lv_at hl 3 rfl) ?_
        refine lv_iconst (v := nI 1) hx hb dX1_point_179 (by decide) ?_
        refine lv_ldc2 hx hb hown (hts _ q1136) dX1_point_180 ?_
        refine lv_iload_n hx hb dX1_point_183 rfl (lv_at hl 7 rfl) ?_
        refine lv_i2l (v := y9.toInt64) hx hb dX1_point_184 rfl ?_
        refine lv_lmul hx hb dX1_point_185 ?_
        refine lv_lload hx hb dX1_point_186 (lv_at hl 2 rfl) ?_
        refine lv_lmul hx hb dX1_point_188 ?_
        refine a_last hx hb hK hP hD hS 1 1 rfl rfl (by omega) (by omega) dX1_point_189 (fun H locs hP hD hS => ?_)
        have hP : va_P (dC, dI) vwCl [((xa 7), .inl (dA 4, 8, .inr (.inr (.inr (.inr (fun k => some (rm k))))))), (na_12, .inl (dA 1, 5, .inr (.inl (vp_updL (vp_updL (fun _ => 0) 0 (((2 : Int64) * x9.toInt64) * d9.toInt64)) 1 (((2 : Int64) * y9.toInt64) * d9.toInt64)))))] H := hP
        have hD : va_D A [((xa 7), .inl (dA 4, 8, .inr (.inr (.inr (.inr (fun k => some (rm k))))))), (na_12, .inl (dA 1, 5, .inr (.inl (vp_updL (vp_updL (fun _ => 0) 0 (((2 : Int64) * x9.toInt64) * d9.toInt64)) 1 (((2 : Int64) * y9.toInt64) * d9.toInt64)))))] := hD
        refine lv_iload hx hb dX1_point_190 (lv_at hl 0 rfl) ?_
        refine lv_iconst (v := nI 2) hx hb dX1_point_192 (by decide) ?_
        refine lv_icmp_le (tgt := 210) hx hb dX1_point_193 (by decide) (fun c_193 => ?_) (fun c_193 => ?_)
        · exact absurd c_193 (by decide)
        refine lv_aload hx hb dX1_point_196 (lv_at hl 3 rfl) ?_
        refine lv_iconst (v := nI 2) hx hb dX1_point_198 (by decide) ?_
        refine lv_ldc2 hx hb hown (hts _ q1136) dX1_point_199 ?_
        refine lv_iload hx hb dX1_point_202 (lv_at hl 8 rfl) ?_
        refine lv_i2l (v := z9.toInt64) hx hb dX1_point_204 rfl ?_
        refine lv_lmul hx hb dX1_point_205 ?_
        refine lv_lload hx hb dX1_point_206 (lv_at hl 2 rfl) ?_
        refine lv_lmul hx hb dX1_point_208 ?_
        refine a_last hx hb hK hP hD hS 1 1 rfl rfl (by omega) (by omega) dX1_point_209 (fun H locs hP hD hS => ?_)
        have hP : va_P (dC, dI) vwCl [((xa 7), .inl (dA 4, 8, .inr (.inr (.inr (.inr (fun k => some (rm k))))))), (na_12, .inl (dA 1, 5, .inr (.inl (vp_updL (vp_updL (vp_updL (fun _ => 0) 0 (((2 : Int64) * x9.toInt64) * d9.toInt64)) 1 (((2 : Int64) * y9.toInt64) * d9.toInt64)) 2 (((2 : Int64) * z9.toInt64) * d9.toInt64)))))] H := hP
        have hD : va_D A [((xa 7), .inl (dA 4, 8, .inr (.inr (.inr (.inr (fun k => some (rm k))))))), (na_12, .inl (dA 1, 5, .inr (.inl (vp_updL (vp_updL (vp_updL (fun _ => 0) 0 (((2 : Int64) * x9.toInt64) * d9.toInt64)) 1 (((2 : Int64) * y9.toInt64) * d9.toInt64)) 2 (((2 : Int64) * z9.toInt64) * d9.toInt64)))))] := hD
        refine lv_aload hx hb dX1_point_210 (lv_at hl 3 rfl) ?_
        refine lv_iload hx hb dX1_point_212 (lv_at hl 0 rfl) ?_
        refine lv_lload hx hb dX1_point_214 (lv_at hl 1 rfl) ?_
        refine lv_lload hx hb dX1_point_216 (lv_at hl 2 rfl) ?_
        refine lv_lload hx hb dX1_point_218 (lv_at hl 2 rfl) ?_
        refine lv_lmul hx hb dX1_point_220 ?_
        refine lv_lsub hx hb dX1_point_221 ?_
        refine a_last hx hb hK hP hD hS 1 1 rfl rfl (by omega) (by omega) dX1_point_222 (fun H locs hP hD hS => ?_)
        have hP : va_P (dC, dI) vwCl [((xa 7), .inl (dA 4, 8, .inr (.inr (.inr (.inr (fun k => some (rm k))))))), (na_12, .inl (dA 1, 5, .inr (.inl (vp_updL (vp_updL (vp_updL (vp_updL (fun _ => 0) 0 (((2 : Int64) * x9.toInt64) * d9.toInt64)) 1 (((2 : Int64) * y9.toInt64) * d9.toInt64)) 2 (((2 : Int64) * z9.toInt64) * d9.toInt64)) 3 ((((x9.toInt64 * x9.toInt64) + (y9.toInt64 * y9.toInt64)) + (z9.toInt64 * z9.toInt64)) - (d9.toInt64 * d9.toInt64))))))] H := hP
        have hD : va_D A [((xa 7), .inl (dA 4, 8, .inr (.inr (.inr (.inr (fun k => some (rm k))))))), (na_12, .inl (dA 1, 5, .inr (.inl (vp_updL (vp_updL (vp_updL (vp_updL (fun _ => 0) 0 (((2 : Int64) * x9.toInt64) * d9.toInt64)) 1 (((2 : Int64) * y9.toInt64) * d9.toInt64)) 2 (((2 : Int64) * z9.toInt64) * d9.toInt64)) 3 ((((x9.toInt64 * x9.toInt64) + (y9.toInt64 * y9.toInt64)) + (z9.toInt64 * z9.toInt64)) - (d9.toInt64 * d9.toInt64))))))] := hD
        refine lv_aload hx hb dX1_point_223 (lv_at hl 3 rfl) ?_
        refine lv_iload hx hb dX1_point_225 (lv_at hl 0 rfl) ?_
        refine lv_iconst (v := nI 1) hx hb dX1_point_227 (by decide) ?_
        refine lv_iadd hx hb dX1_point_228 ?_
        refine e_i (y := nI 4) (nI_add _ _) ?_
        refine lv_lload hx hb dX1_point_229 (lv_at hl 1 rfl) ?_
        refine lv_lload hx hb dX1_point_231 (lv_at hl 2 rfl) ?_
        refine lv_lload hx hb dX1_point_233 (lv_at hl 2 rfl) ?_
        refine lv_lmul hx hb dX1_point_235 ?_
        refine lv_ladd hx hb dX1_point_236 ?_
        refine a_last hx hb hK hP hD hS 1 1 rfl rfl (by omega) (by omega) dX1_point_237 (fun H locs hP hD hS => ?_)
        have hP : va_P (dC, dI) vwCl [((xa 7), .inl (dA 4, 8, .inr (.inr (.inr (.inr (fun k => some (rm k))))))), (na_12, .inl (dA 1, 5, .inr (.inl (vp_updL (vp_updL (vp_updL (vp_updL (vp_updL (fun _ => 0) 0 (((2 : Int64) * x9.toInt64) * d9.toInt64)) 1 (((2 : Int64) * y9.toInt64) * d9.toInt64)) 2 (((2 : Int64) * z9.toInt64) * d9.toInt64)) 3 ((((x9.toInt64 * x9.toInt64) + (y9.toInt64 * y9.toInt64)) + (z9.toInt64 * z9.toInt64)) - (d9.toInt64 * d9.toInt64))) 4 ((((x9.toInt64 * x9.toInt64) + (y9.toInt64 * y9.toInt64)) + (z9.toInt64 * z9.toInt64)) + (d9.toInt64 * d9.toInt64))))))] H := hP
        have hD : va_D A [((xa 7), .inl (dA 4, 8, .inr (.inr (.inr (.inr (fun k => some (rm k))))))), (na_12, .inl (dA 1, 5, .inr (.inl (vp_updL (vp_updL (vp_updL (vp_updL (vp_updL (fun _ => 0) 0 (((2 : Int64) * x9.toInt64) * d9.toInt64)) 1 (((2 : Int64) * y9.toInt64) * d9.toInt64)) 2 (((2 : Int64) * z9.toInt64) * d9.toInt64)) 3 ((((x9.toInt64 * x9.toInt64) + (y9.toInt64 * y9.toInt64)) + (z9.toInt64 * z9.toInt64)) - (d9.toInt64 * d9.toInt64))) 4 ((((x9.toInt64 * x9.toInt64) + (y9.toInt64 * y9.toInt64)) + (z9.toInt64 * z9.toInt64)) + (d9.toInt64 * d9.toInt64))))))] := hD
        refine lv_aload_n hx hb dX1_point_238 rfl (lv_at hl 4 rfl) ?_
        refine lv_iload_n hx hb dX1_point_239 rfl (lv_at hl 5 rfl) ?_
        refine lv_aload hx hb dX1_point_240 (lv_at hl 3 rfl) ?_
        refine lv_lload hx hb dX1_point_242 (lv_at hl 2 rfl) ?_
        refine lv_lload hx hb dX1_point_244 (lv_at hl 2 rfl) ?_
        refine lv_lmul hx hb dX1_point_246 ?_
        have hF9 := va_free (wc := []) hD hS (fun q h => hA q h) [] rfl
        refine x_r (wc := []) (wr := [((xa 7), .inl (dA 4, 8, .inr (.inr (.inr (.inr (fun k => some (rm k))))))), (na_12, .inl (dA 1, 5, .inr (.inl (vp_updL (vp_updL (vp_updL (vp_updL (vp_updL (fun _ => 0) 0 (((2 : Int64) * x9.toInt64) * d9.toInt64)) 1 (((2 : Int64) * y9.toInt64) * d9.toInt64)) 2 (((2 : Int64) * z9.toInt64) * d9.toInt64)) 3 ((((x9.toInt64 * x9.toInt64) + (y9.toInt64 * y9.toInt64)) + (z9.toInt64 * z9.toInt64)) - (d9.toInt64 * d9.toInt64))) 4 ((((x9.toInt64 * x9.toInt64) + (y9.toInt64 * y9.toInt64)) + (z9.toInt64 * z9.toInt64)) + (d9.toInt64 * d9.toInt64))))))]) (vx_runS (As := [.ref na_12, .long (d9.toInt64 * d9.toInt64)]) (rest := [.int (nI jt), .ref (xa 0)]) ⟨hx, hb, hml, hown, hts⟩ (x1_vector Z (va_A [] H.size) H.size (fun q h => Or.inr h) Y na_12 (vp_updL (vp_updL (vp_updL (vp_updL (vp_updL (fun _ => 0) 0 (((2 : Int64) * x9.toInt64) * d9.toInt64)) 1 (((2 : Int64) * y9.toInt64) * d9.toInt64)) 2 (((2 : Int64) * z9.toInt64) * d9.toInt64)) 3 ((((x9.toInt64 * x9.toInt64) + (y9.toInt64 * y9.toInt64)) + (z9.toInt64 * z9.toInt64)) - (d9.toInt64 * d9.toInt64))) 4 ((((x9.toInt64 * x9.toInt64) + (y9.toInt64 * y9.toInt64)) + (z9.toInt64 * z9.toInt64)) + (d9.toInt64 * d9.toInt64))) (d9.toInt64 * d9.toInt64) (pt_u hp4).1 (pt_u hp4).2 (pt_nm (by decide) (pt_v4 hyz) hpB)) (va_cwS 2 hts (lw_S q900 q901 q96 q902) rfl rfl rfl (by decide +kernel) ⟨Nat.le_of_ble_eq_true rfl, Nat.le_of_ble_eq_true rfl⟩) (gP_S hG hS (fun q _ h => hF9 q h) ⟨rfl, (RO.beside (wr := [(na_12, .inl (dA 1, 5, .inr (.inl (vp_updL (vp_updL (vp_updL (vp_updL (vp_updL (fun _ => 0) 0 (((2 : Int64) * x9.toInt64) * d9.toInt64)) 1 (((2 : Int64) * y9.toInt64) * d9.toInt64)) 2 (((2 : Int64) * z9.toInt64) * d9.toInt64)) 3 ((((x9.toInt64 * x9.toInt64) + (y9.toInt64 * y9.toInt64)) + (z9.toInt64 * z9.toInt64)) - (d9.toInt64 * d9.toInt64))) 4 ((((x9.toInt64 * x9.toInt64) + (y9.toInt64 * y9.toInt64)) + (z9.toInt64 * z9.toInt64)) + (d9.toInt64 * d9.toInt64))))))]) hP hD [] [1] rfl rfl (by decide))⟩) rfl rfl hl.1 rfl (lv_room (Nat.le_of_ble_eq_true rfl)) dX1_point_247 ⟨by first | decide | omega | (show _ ≤ (14 : Nat); omega), by first | decide | omega | (show _ ≤ (160 : Nat); omega)⟩) hP hD hS hA [] [0, 1] rfl rfl (by decide) (by decide) (fun E ce q9 u9 t9 H locs ht9 hp9 hb9 hz hP hS h1 h2 h3 => ?_) (fun u9 ra9 H locs hq hX hz hk hP hD hS => ?_)
        · have hD := hD.sub (ws' := [((xa 7), .inl (dA 4, 8, .inr (.inr (.inr (.inr (fun k => some (rm k))))))), (na_12, .inl (dA 1, 5, .inr (.inl (vp_updL (vp_updL (vp_updL (vp_updL (vp_updL (fun _ => 0) 0 (((2 : Int64) * x9.toInt64) * d9.toInt64)) 1 (((2 : Int64) * y9.toInt64) * d9.toInt64)) 2 (((2 : Int64) * z9.toInt64) * d9.toInt64)) 3 ((((x9.toInt64 * x9.toInt64) + (y9.toInt64 * y9.toInt64)) + (z9.toInt64 * z9.toInt64)) - (d9.toInt64 * d9.toInt64))) 4 ((((x9.toInt64 * x9.toInt64) + (y9.toInt64 * y9.toInt64)) + (z9.toInt64 * z9.toInt64)) + (d9.toInt64 * d9.toInt64))))))]) [0, 1] (by decide) rfl
          have hP : va_P (dC, dI) vwCl [((xa 7), .inl (dA 4, 8, .inr (.inr (.inr (.inr (fun k => some (rm k))))))), (na_12, .inl (dA 1, 5, .inr (.inl (vp_updL (vp_updL (vp_updL (vp_updL (vp_updL (fun _ => 0) 0 (((2 : Int64) * x9.toInt64) * d9.toInt64)) 1 (((2 : Int64) * y9.toInt64) * d9.toInt64)) 2 (((2 : Int64) * z9.toInt64) * d9.toInt64)) 3 ((((x9.toInt64 * x9.toInt64) + (y9.toInt64 * y9.toInt64)) + (z9.toInt64 * z9.toInt64)) - (d9.toInt64 * d9.toInt64))) 4 ((((x9.toInt64 * x9.toInt64) + (y9.toInt64 * y9.toInt64)) + (z9.toInt64 * z9.toInt64)) + (d9.toInt64 * d9.toInt64))))))] H := hP
          have hD : va_D A [((xa 7), .inl (dA 4, 8, .inr (.inr (.inr (.inr (fun k => some (rm k))))))), (na_12, .inl (dA 1, 5, .inr (.inl (vp_updL (vp_updL (vp_updL (vp_updL (vp_updL (fun _ => 0) 0 (((2 : Int64) * x9.toInt64) * d9.toInt64)) 1 (((2 : Int64) * y9.toInt64) * d9.toInt64)) 2 (((2 : Int64) * z9.toInt64) * d9.toInt64)) 3 ((((x9.toInt64 * x9.toInt64) + (y9.toInt64 * y9.toInt64)) + (z9.toInt64 * z9.toInt64)) - (d9.toInt64 * d9.toInt64))) 4 ((((x9.toInt64 * x9.toInt64) + (y9.toInt64 * y9.toInt64)) + (z9.toInt64 * z9.toInt64)) + (d9.toInt64 * d9.toInt64))))))] := hD
          subst hb9
          refine vx_catch (name := "BladeAlgebra$Unfit") (E := "BladeAlgebra$Unfit") (ce := ce) hown [] ⟨238, 253, 254, 179⟩ [] hxt (fun _ h => nomatch h) (by decide) (by decide) (hts _ q468) (castZ Z hG q523) h1 h2 h3 ?_
          have hpU := hp9
          refine lv_astore (lv' := [(12, .ref q9), (11, .int (nI 3)), (9, .long (((x9.toInt64 * x9.toInt64) + (y9.toInt64 * y9.toInt64)) + (z9.toInt64 * z9.toInt64))), (7, .long d9.toInt64), (6, .ref na_12), (0, .ref (xa 0)), (1, .int (nI jt)), (2, .int x9), (3, .int y9), (4, .int z9), (5, .int d9)]) hx hb dX1_point_254 hl (by decide) rfl (fun ls hl => ?_)
          have hF9 := va_free (wc := []) hD hS (fun q h => hA q h) [] rfl
          refine c_r (wr := [((xa 7), .inl (dA 4, 8, .inr (.inr (.inr (.inr (fun k => some (rm k))))))), (na_12, .inl (dA 1, 5, .inr (.inl (vp_updL (vp_updL (vp_updL (vp_updL (vp_updL (fun _ => 0) 0 (((2 : Int64) * x9.toInt64) * d9.toInt64)) 1 (((2 : Int64) * y9.toInt64) * d9.toInt64)) 2 (((2 : Int64) * z9.toInt64) * d9.toInt64)) 3 ((((x9.toInt64 * x9.toInt64) + (y9.toInt64 * y9.toInt64)) + (z9.toInt64 * z9.toInt64)) - (d9.toInt64 * d9.toInt64))) 4 ((((x9.toInt64 * x9.toInt64) + (y9.toInt64 * y9.toInt64)) + (z9.toInt64 * z9.toInt64)) + (d9.toInt64 * d9.toInt64))))))]) (va_runS (As := []) (rest := []) ⟨hx, hb, hml, hown, hts⟩ (x1_large Z (va_A [] H.size) H.size (fun q h => Or.inr h) Y) (va_cwS 0 hts (lw_S q562 q563 q96 q564) rfl rfl rfl (by decide +kernel) ⟨Nat.le_of_ble_eq_true rfl, Nat.le_of_ble_eq_true rfl⟩) (gP_S hG hS (fun q _ h => hF9 q h) rfl) rfl rfl hl.1 rfl (lv_room (Nat.le_of_ble_eq_true rfl)) dX1_point_256 ⟨by first | decide | omega | (show _ ≤ (14 : Nat); omega), by first | decide | omega | (show _ ≤ (160 : Nat); omega)⟩) hP hD hS hA [] [0, 1] rfl rfl (by decide) (by decide) (fun u9 ra9 H locs hq hX hz hk hP hD hS => ?_)
          obtain ⟨ra_13, rfl⟩ : ∃ z, z = ra9 := ⟨_, rfl⟩
          have hP : va_P (dC, dI) vwCl [((xa 7), .inl (dA 4, 8, .inr (.inr (.inr (.inr (fun k => some (rm k))))))), (na_12, .inl (dA 1, 5, .inr (.inl (vp_updL (vp_updL (vp_updL (vp_updL (vp_updL (fun _ => 0) 0 (((2 : Int64) * x9.toInt64) * d9.toInt64)) 1 (((2 : Int64) * y9.toInt64) * d9.toInt64)) 2 (((2 : Int64) * z9.toInt64) * d9.toInt64)) 3 ((((x9.toInt64 * x9.toInt64) + (y9.toInt64 * y9.toInt64)) + (z9.toInt64 * z9.toInt64)) - (d9.toInt64 * d9.toInt64))) 4 ((((x9.toInt64 * x9.toInt64) + (y9.toInt64 * y9.toInt64)) + (z9.toInt64 * z9.toInt64)) + (d9.toInt64 * d9.toInt64)))))), (ra_13, .inr (17, []))] H := hP
          have hD : va_D A [((xa 7), .inl (dA 4, 8, .inr (.inr (.inr (.inr (fun k => some (rm k))))))), (na_12, .inl (dA 1, 5, .inr (.inl (vp_updL (vp_updL (vp_updL (vp_updL (vp_updL (fun _ => 0) 0 (((2 : Int64) * x9.toInt64) * d9.toInt64)) 1 (((2 : Int64) * y9.toInt64) * d9.toInt64)) 2 (((2 : Int64) * z9.toInt64) * d9.toInt64)) 3 ((((x9.toInt64 * x9.toInt64) + (y9.toInt64 * y9.toInt64)) + (z9.toInt64 * z9.toInt64)) - (d9.toInt64 * d9.toInt64))) 4 ((((x9.toInt64 * x9.toInt64) + (y9.toInt64 * y9.toInt64)) + (z9.toInt64 * z9.toInt64)) + (d9.toInt64 * d9.toInt64)))))), (ra_13, .inr (17, []))] := hD
          refine vx_athrow hx hb dX1_point_259 ?_
          obtain ⟨ce, h1, h2, h3⟩ := va_thr hK hP (ci := 17) (q0 := 2) rfl rfl
          subst hQe
          exact vx_outP hown hlocks (by rw [hxt]; exact (List.forall_mem_cons.mpr ⟨Or.inl (by decide), (fun _ h => nomatch h)⟩)) h1 h2 h3 (fun t10 e10 _ => ⟨(), trivial, (⟨Or.inr (Or.inr (Or.inr (⟨rfl, pt_o h7jt hpB hcf (pt_f (pt_v4 hyz) hp4 hpU)⟩))), by rw [e10]; exact hP.sub (ws' := [((xa 7), .inl (dA 4, 8, .inr (.inr (.inr (.inr (fun k => some (rm k)))))))]) [0] rfl⟩ : (_ ∧ _)), hS.F e10⟩) hS.2.2 (by first | decide | omega) (by first | decide | omega)
        obtain ⟨ra_14, rfl⟩ : ∃ z, z = ra9 := ⟨_, rfl⟩
        obtain ⟨mr_14, M_14⟩ := u9
        have e_14 := hq
        have sm_14 : MSm M_14 := fitG_sm (pt_u hp4).1 (pt_u hp4).2 e_14
        clear hq
        have hP : va_P (dC, dI) vwCl [((xa 7), .inl (dA 4, 8, .inr (.inr (.inr (.inr (fun k => some (rm k))))))), (na_12, .inl (dA 1, 5, .inr (.inl (vp_updL (vp_updL (vp_updL (vp_updL (vp_updL (fun _ => 0) 0 (((2 : Int64) * x9.toInt64) * d9.toInt64)) 1 (((2 : Int64) * y9.toInt64) * d9.toInt64)) 2 (((2 : Int64) * z9.toInt64) * d9.toInt64)) 3 ((((x9.toInt64 * x9.toInt64) + (y9.toInt64 * y9.toInt64)) + (z9.toInt64 * z9.toInt64)) - (d9.toInt64 * d9.toInt64))) 4 ((((x9.toInt64 * x9.toInt64) + (y9.toInt64 * y9.toInt64)) + (z9.toInt64 * z9.toInt64)) + (d9.toInt64 * d9.toInt64)))))), (ra_14, .inr (0, [.ref mr_14, .long (M_14 0)])), (mr_14, .inl (dA 1, 32, .inr (.inl (fun j => M_14 (j + 1)))))] H := hP
        have hD : va_D A [((xa 7), .inl (dA 4, 8, .inr (.inr (.inr (.inr (fun k => some (rm k))))))), (na_12, .inl (dA 1, 5, .inr (.inl (vp_updL (vp_updL (vp_updL (vp_updL (vp_updL (fun _ => 0) 0 (((2 : Int64) * x9.toInt64) * d9.toInt64)) 1 (((2 : Int64) * y9.toInt64) * d9.toInt64)) 2 (((2 : Int64) * z9.toInt64) * d9.toInt64)) 3 ((((x9.toInt64 * x9.toInt64) + (y9.toInt64 * y9.toInt64)) + (z9.toInt64 * z9.toInt64)) - (d9.toInt64 * d9.toInt64))) 4 ((((x9.toInt64 * x9.toInt64) + (y9.toInt64 * y9.toInt64)) + (z9.toInt64 * z9.toInt64)) + (d9.toInt64 * d9.toInt64)))))), (ra_14, .inr (0, [.ref mr_14, .long (M_14 0)])), (mr_14, .inl (dA 1, 32, .inr (.inl (fun j => M_14 (j + 1)))))] := hD
        have hF9 := va_free (wc := [((xa 7), .inl (dA 4, 8, .inr (.inr (.inr (.inr (fun k => some (rm k)))))))]) hD hS (fun q h => hA q h) [0] rfl
        refine c_i (wr := [(na_12, .inl (dA 1, 5, .inr (.inl (vp_updL (vp_updL (vp_updL (vp_updL (vp_updL (fun _ => 0) 0 (((2 : Int64) * x9.toInt64) * d9.toInt64)) 1 (((2 : Int64) * y9.toInt64) * d9.toInt64)) 2 (((2 : Int64) * z9.toInt64) * d9.toInt64)) 3 ((((x9.toInt64 * x9.toInt64) + (y9.toInt64 * y9.toInt64)) + (z9.toInt64 * z9.toInt64)) - (d9.toInt64 * d9.toInt64))) 4 ((((x9.toInt64 * x9.toInt64) + (y9.toInt64 * y9.toInt64)) + (z9.toInt64 * z9.toInt64)) + (d9.toInt64 * d9.toInt64)))))), (ra_14, .inr (0, [.ref mr_14, .long (M_14 0)])), (mr_14, .inl (dA 1, 32, .inr (.inl (fun j => M_14 (j + 1)))))]) (va_runV (As := [.int (nI jt), .ref ra_14]) (rest := []) ⟨hx, hb, hml, hown, hts⟩ (x1_store Z (va_A [((xa 7), .inl (dA 4, 8, .inr (.inr (.inr (.inr (fun k => some (rm k)))))))] H.size) H.size (fun q h => Or.inr h) Y xa tl ec ep ga (fun k => some (rm k)) jt ra_14 mr_14 M_14 (by omega)) (cwV 2 hts (lw_V q731 q733 qs6 q96 q734) rfl rfl rfl (by decide +kernel) ⟨Nat.le_of_ble_eq_true rfl, Nat.le_of_ble_eq_true rfl⟩) (gP_V (va_recv hK (hR0.up hS) (ci := 3) (q0 := 0) rfl rfl) hG hS (fun q _ h => hF9 q h) ⟨rfl, (hP.sub (ws' := [((xa 7), .inl (dA 4, 8, .inr (.inr (.inr (.inr (fun k => some (rm k)))))))]) [0] rfl), (hD.sub (ws' := [((xa 7), .inl (dA 4, 8, .inr (.inr (.inr (.inr (fun k => some (rm k)))))))]) [0] (by decide) rfl).self, (hR0.to hS (fun q _ h => hF9 q h)), (RO.beside (wr := [(ra_14, .inr (0, [.ref mr_14, .long (M_14 0)])), (mr_14, .inl (dA 1, 32, .inr (.inl (fun j => M_14 (j + 1)))))]) hP hD [0] [2, 3] rfl rfl (by decide))⟩) rfl rfl hl.1 rfl (lv_room (Nat.le_of_ble_eq_true rfl)) dX1_point_250 ⟨by first | decide | omega | (show _ ≤ (14 : Nat); omega), by first | decide | omega | (show _ ≤ (160 : Nat); omega)⟩) hP hD hS hA [0] [1, 2, 3] rfl rfl (by decide) (by decide) (fun r9 u9 H locs hq hX hz hk hP hD hS => ?_)
        obtain ⟨r_15, rfl⟩ : ∃ z, z = r9 := ⟨_, rfl⟩
        subst hq
        have hP : va_P (dC, dI) vwCl [(na_12, .inl (dA 1, 5, .inr (.inl (vp_updL (vp_updL (vp_updL (vp_updL (vp_updL (fun _ => 0) 0 (((2 : Int64) * x9.toInt64) * d9.toInt64)) 1 (((2 : Int64) * y9.toInt64) * d9.toInt64)) 2 (((2 : Int64) * z9.toInt64) * d9.toInt64)) 3 ((((x9.toInt64 * x9.toInt64) + (y9.toInt64 * y9.toInt64)) + (z9.toInt64 * z9.toInt64)) - (d9.toInt64 * d9.toInt64))) 4 ((((x9.toInt64 * x9.toInt64) + (y9.toInt64 * y9.toInt64)) + (z9.toInt64 * z9.toInt64)) + (d9.toInt64 * d9.toInt64)))))), (ra_14, .inr (0, [.ref mr_14, .long (M_14 0)])), (mr_14, .inl (dA 1, 32, .inr (.inl (fun j => M_14 (j + 1))))), ((xa 7), .inl (dA 4, 8, .inr (.inr (.inr (.inr (va_up (fun k => some (rm k)) jt (some ra_14)))))))] H := hP
        have hD : va_D A [(na_12, .inl (dA 1, 5, .inr (.inl (vp_updL (vp_updL (vp_updL (vp_updL (vp_updL (fun _ => 0) 0 (((2 : Int64) * x9.toInt64) * d9.toInt64)) 1 (((2 : Int64) * y9.toInt64) * d9.toInt64)) 2 (((2 : Int64) * z9.toInt64) * d9.toInt64)) 3 ((((x9.toInt64 * x9.toInt64) + (y9.toInt64 * y9.toInt64)) + (z9.toInt64 * z9.toInt64)) - (d9.toInt64 * d9.toInt64))) 4 ((((x9.toInt64 * x9.toInt64) + (y9.toInt64 * y9.toInt64)) + (z9.toInt64 * z9.toInt64)) + (d9.toInt64 * d9.toInt64)))))), (ra_14, .inr (0, [.ref mr_14, .long (M_14 0)])), (mr_14, .inl (dA 1, 32, .inr (.inl (fun j => M_14 (j + 1))))), ((xa 7), .inl (dA 4, 8, .inr (.inr (.inr (.inr (va_up (fun k => some (rm k)) jt (some ra_14)))))))] := hD
        have e8 : rg (nI jt) = jt := rg_n (by omega)
        subst hQe
        refine vx_ret ?_
        refine W.widen (k := 14) (n := 160) (by first | decide | omega) (by first | decide | omega) ?_
        exact W.iret (v := nI (trmS M_14)) hx hb hr (fun tz ht hW => ⟨⟨_, (ra_14, mr_14, M_14), rfl, ⟨pt_o h7jt hpB hcf (pt_f (pt_v4 hyz) hp4 e_14), rfl⟩, B1_at ht (by rw [e8]; exact hP.sub [3] rfl) (by rw [e8]; exact hD.sub [3] (by decide) rfl) (⟨hP.sub [1, 2] rfl, Or.inl ⟨fresh_of hD hAf 3 1 rfl rfl (by decide), fresh_of hD hAf 3 2 rfl rfl (by decide)⟩⟩)⟩, hS.F ht⟩) hS.2.2 dX1_point_253
    refine lv_if_eq (tgt := 106) hx hb dX1_point_78 (by decide) (fun c_78 => ?_) (fun c_78 => ?_)
    · refine lv_iconst (v := nI 1) hx hb dX1_point_106 (by decide) ?_
      refine lv_goto (tgt := 111) hx hb dX1_point_107 (by decide) ?_
      refine e_i (y := bI true) (rfl) ?_
      exact J_3 true H locs ls ((cz_n (bI_0 c_78)).symm) (hP.sub [0] rfl) (hD.sub [0] (by decide) rfl) hS (lv_sub hl [0, 1, 2, 3, 4, 5] rfl)
    · have hcf := bI_1 c_78
      have hcp := cf_p hcf
      refine lv_aload_n hx hb dX1_point_81 rfl (lv_at hl 0 rfl) ?_
      refine s_i (va_runV (As := []) (rest := []) ⟨hx, hb, hml, hown, hts⟩ (x1_dimensions Z Y xa tl ec ep ga sg p0 q0 r0 (by omega)) (cwV 0 hts (lw_V q1138 q1140 qs13 q96 q1141) rfl rfl rfl (by decide +kernel) ⟨Nat.le_of_ble_eq_true rfl, Nat.le_of_ble_eq_true rfl⟩) (gP_V (va_recv hK (hR0.up hS) (ci := 3) (q0 := 0) rfl rfl) hG hS (fun q _ h => h.elim) (va_P.app ((hR0.up hS).sub (ws' := [((xa 0), .inr (3, xFs xa tl ec ep)), ((xa 3), .inr (4, [.ref ga, .ref (xa 7)]))]) [0, 1] rfl) ((hR1.up hS).sub (ws' := [(ga, .inr (1, [.int (nI p0), .int (nI q0), .int (nI r0), .int (nI (p0 + q0 + r0)), .int (nI (2 ^ (p0 + q0 + r0) - 1)), .ref sg]))]) [0] rfl))) rfl rfl hl.1 rfl (lv_room (Nat.le_of_ble_eq_true rfl)) dX1_point_82 ⟨by first | decide | omega | (show _ ≤ (14 : Nat); omega), by first | decide | omega | (show _ ≤ (160 : Nat); omega)⟩) ?_
      refine lv_iconst (v := nI 1) hx hb dX1_point_85 (by decide) ?_
      refine lv_icmp_gt (tgt := 93) hx hb dX1_point_86 (by decide) (fun c_86 => ?_) (fun c_86 => ?_)
      · have c_86 : 1 < (p0 - 1) := (nI_ltI (a := 1) (b := (p0 - 1)) (by omega) (by omega)).mp c_86
        have hy : (decide (1 < p0 - 1) || decide (y9 = nI 0)) = true := by rw [decide_eq_true c_86, Bool.true_or]
        refine lv_aload_n hx hb dX1_point_93 rfl (lv_at hl 0 rfl) ?_
        refine s_i (va_runV (As := []) (rest := []) ⟨hx, hb, hml, hown, hts⟩ (x1_dimensions Z Y xa tl ec ep ga sg p0 q0 r0 (by omega)) (cwV 0 hts (lw_V q1138 q1140 qs13 q96 q1141) rfl rfl rfl (by decide +kernel) ⟨Nat.le_of_ble_eq_true rfl, Nat.le_of_ble_eq_true rfl⟩) (gP_V (va_recv hK (hR0.up hS) (ci := 3) (q0 := 0) rfl rfl) hG hS (fun q _ h => h.elim) (va_P.app ((hR0.up hS).sub (ws' := [((xa 0), .inr (3, xFs xa tl ec ep)), ((xa 3), .inr (4, [.ref ga, .ref (xa 7)]))]) [0, 1] rfl) ((hR1.up hS).sub (ws' := [(ga, .inr (1, [.int (nI p0), .int (nI q0), .int (nI r0), .int (nI (p0 + q0 + r0)), .int (nI (2 ^ (p0 + q0 + r0) - 1)), .ref sg]))]) [0] rfl))) rfl rfl hl.1 rfl (lv_room (Nat.le_of_ble_eq_true rfl)) dX1_point_94 ⟨by first | decide | omega | (show _ ≤ (14 : Nat); omega), by first | decide | omega | (show _ ≤ (160 : Nat); omega)⟩) ?_
        refine lv_iconst (v := nI 2) hx hb dX1_point_97 (by decide) ?_
        refine lv_icmp_gt (tgt := 106) hx hb dX1_point_98 (by decide) (fun c_98 => ?_) (fun c_98 => ?_)
        · have c_98 : 2 < (p0 - 1) := (nI_ltI (a := 2) (b := (p0 - 1)) (by omega) (by omega)).mp c_98
          refine lv_iconst (v := nI 1) hx hb dX1_point_106 (by decide) ?_
          refine lv_goto (tgt := 111) hx hb dX1_point_107 (by decide) ?_
          refine e_i (y := bI true) (rfl) ?_
          exact J_3 true H locs ls (by rw [cz_c hcf, hy, decide_eq_true c_98]; rfl) (hP.sub [0] rfl) (hD.sub [0] (by decide) rfl) hS (lv_sub hl [0, 1, 2, 3, 4, 5] rfl)
        · have c_98 : ¬ 2 < (p0 - 1) := fun h => c_98 ((nI_ltI (a := 2) (b := (p0 - 1)) (by omega) (by omega)).mpr h)
          refine lv_iload hx hb dX1_point_101 (lv_at hl 4 rfl) ?_
          refine lv_if_ne (tgt := 110) hx hb dX1_point_103 (by decide) (fun c_103 => ?_) (fun c_103 => ?_)
          · refine lv_iconst (v := nI 0) hx hb dX1_point_110 (by decide) ?_
            refine e_i (y := bI false) (rfl) ?_
            exact J_3 false H locs ls (by rw [cz_c hcf, hy, decide_eq_false c_98, decide_eq_false (p := z9 = nI 0) c_103]; rfl) (hP.sub [0] rfl) (hD.sub [0] (by decide) rfl) hS (lv_sub hl [0, 1, 2, 3, 4, 5] rfl)
          · refine lv_iconst (v := nI 1) hx hb dX1_point_106 (by decide) ?_
            refine lv_goto (tgt := 111) hx hb dX1_point_107 (by decide) ?_
            refine e_i (y := bI true) (rfl) ?_
            exact J_3 true H locs ls (by rw [cz_c hcf, hy, decide_eq_true (p := z9 = nI 0) c_103, Bool.or_true]; rfl) (hP.sub [0] rfl) (hD.sub [0] (by decide) rfl) hS (lv_sub hl [0, 1, 2, 3, 4, 5] rfl)
      · have c_86 : ¬ 1 < (p0 - 1) := fun h => c_86 ((nI_ltI (a := 1) (b := (p0 - 1)) (by omega) (by omega)).mpr h)
        refine lv_iload_n hx hb dX1_point_89 rfl (lv_at hl 3 rfl) ?_
        refine lv_if_ne (tgt := 110) hx hb dX1_point_90 (by decide) (fun c_90 => ?_) (fun c_90 => ?_)
        · refine lv_iconst (v := nI 0) hx hb dX1_point_110 (by decide) ?_
          refine e_i (y := bI false) (rfl) ?_
          exact J_3 false H locs ls (by rw [cz_c hcf, decide_eq_false c_86, decide_eq_false (p := y9 = nI 0) c_90]; rfl) (hP.sub [0] rfl) (hD.sub [0] (by decide) rfl) hS (lv_sub hl [0, 1, 2, 3, 4, 5] rfl)
        · have hy : (decide (1 < p0 - 1) || decide (y9 = nI 0)) = true := by rw [decide_eq_true (p := y9 = nI 0) c_90, Bool.or_true]
          refine lv_aload_n hx hb dX1_point_93 rfl (lv_at hl 0 rfl) ?_
          refine s_i (va_runV (As := []) (rest := []) ⟨hx, hb, hml, hown, hts⟩ (x1_dimensions Z Y xa tl ec ep ga sg p0 q0 r0 (by omega)) (cwV 0 hts (lw_V q1138 q1140 qs13 q96 q1141) rfl rfl rfl (by decide +kernel) ⟨Nat.le_of_ble_eq_true rfl, Nat.le_of_ble_eq_true rfl⟩) (gP_V (va_recv hK (hR0.up hS) (ci := 3) (q0 := 0) rfl rfl) hG hS (fun q _ h => h.elim) (va_P.app ((hR0.up hS).sub (ws' := [((xa 0), .inr (3, xFs xa tl ec ep)), ((xa 3), .inr (4, [.ref ga, .ref (xa 7)]))]) [0, 1] rfl) ((hR1.up hS).sub (ws' := [(ga, .inr (1, [.int (nI p0), .int (nI q0), .int (nI r0), .int (nI (p0 + q0 + r0)), .int (nI (2 ^ (p0 + q0 + r0) - 1)), .ref sg]))]) [0] rfl))) rfl rfl hl.1 rfl (lv_room (Nat.le_of_ble_eq_true rfl)) dX1_point_94 ⟨by first | decide | omega | (show _ ≤ (14 : Nat); omega), by first | decide | omega | (show _ ≤ (160 : Nat); omega)⟩) ?_
          refine lv_iconst (v := nI 2) hx hb dX1_point_97 (by decide) ?_
          refine lv_icmp_gt (tgt := 106) hx hb dX1_point_98 (by decide) (fun c_98 => ?_) (fun c_98 => ?_)
          · have c_98 : 2 < (p0 - 1) := (nI_ltI (a := 2) (b := (p0 - 1)) (by omega) (by omega)).mp c_98
            refine lv_iconst (v := nI 1) hx hb dX1_point_106 (by decide) ?_
            refine lv_goto (tgt := 111) hx hb dX1_point_107 (by decide) ?_
            refine e_i (y := bI true) (rfl) ?_
            exact J_3 true H locs ls (by rw [cz_c hcf, hy, decide_eq_true c_98]; rfl) (hP.sub [0] rfl) (hD.sub [0] (by decide) rfl) hS (lv_sub hl [0, 1, 2, 3, 4, 5] rfl)
          · have c_98 : ¬ 2 < (p0 - 1) := fun h => c_98 ((nI_ltI (a := 2) (b := (p0 - 1)) (by omega) (by omega)).mpr h)
            refine lv_iload hx hb dX1_point_101 (lv_at hl 4 rfl) ?_
            refine lv_if_ne (tgt := 110) hx hb dX1_point_103 (by decide) (fun c_103 => ?_) (fun c_103 => ?_)
            · refine lv_iconst (v := nI 0) hx hb dX1_point_110 (by decide) ?_
              refine e_i (y := bI false) (rfl) ?_
              exact J_3 false H locs ls (by rw [cz_c hcf, hy, decide_eq_false c_98, decide_eq_false (p := z9 = nI 0) c_103]; rfl) (hP.sub [0] rfl) (hD.sub [0] (by decide) rfl) hS (lv_sub hl [0, 1, 2, 3, 4, 5] rfl)
            · refine lv_iconst (v := nI 1) hx hb dX1_point_106 (by decide) ?_
              refine lv_goto (tgt := 111) hx hb dX1_point_107 (by decide) ?_
              refine e_i (y := bI true) (rfl) ?_
              exact J_3 true H locs ls (by rw [cz_c hcf, hy, decide_eq_true (p := z9 = nI 0) c_103, Bool.or_true]; rfl) (hP.sub [0] rfl) (hD.sub [0] (by decide) rfl) hS (lv_sub hl [0, 1, 2, 3, 4, 5] rfl)
  refine lv_if_eq (tgt := 70) hx hb dX1_point_21 (by decide) (fun c_21 => ?_) (fun c_21 => ?_)
  · refine lv_iconst (v := nI 0) hx hb dX1_point_70 (by decide) ?_
    refine e_i (y := bI false) (rfl) ?_
    exact J_2 false H locs ls (by unfold coB; rw [bI_0 c_21]; rfl) (hP.sub [0] rfl) (hD.sub [0] (by decide) rfl) hS (lv_sub hl [0, 1, 2, 3, 4, 5] rfl)
  · refine lv_iload_n hx hb dX1_point_24 rfl (lv_at hl 3 rfl) ?_
    refine lv_i2l (v := y9.toInt64) hx hb dX1_point_25 rfl ?_
    refine lv_ldc2 hx hb hown (hts _ q1129) dX1_point_26 ?_
    refine lv_ldc2 hx hb hown (hts _ q1130) dX1_point_29 ?_
    refine s_i (va_runS (As := [.long y9.toInt64, .long (-1000 : Int64), .long (1000 : Int64)]) (rest := []) ⟨hx, hb, hml, hown, hts⟩ (x1_isIn Z y9.toInt64 (-1000 : Int64) (1000 : Int64)) (va_cwS 3 hts (lw_S q332 q333 q96 q334) rfl rfl rfl (by decide +kernel) ⟨Nat.le_of_ble_eq_true rfl, Nat.le_of_ble_eq_true rfl⟩) (gP_S hG hS (fun q _ h => h.elim) trivial) rfl rfl hl.1 rfl (lv_room (Nat.le_of_ble_eq_true rfl)) dX1_point_32 ⟨by first | decide | omega | (show _ ≤ (14 : Nat); omega), by first | decide | omega | (show _ ≤ (160 : Nat); omega)⟩) ?_
    refine e_i (y := bI (inB y9 (-1000) (nI 1000))) (congrArg bI (inL_B y9 (-1000) (nI 1000))) ?_
    refine lv_if_eq (tgt := 70) hx hb dX1_point_35 (by decide) (fun c_35 => ?_) (fun c_35 => ?_)
    · refine lv_iconst (v := nI 0) hx hb dX1_point_70 (by decide) ?_
      refine e_i (y := bI false) (rfl) ?_
      exact J_2 false H locs ls (by unfold coB; rw [bI_1 c_21, bI_0 c_35]; rfl) (hP.sub [0] rfl) (hD.sub [0] (by decide) rfl) hS (lv_sub hl [0, 1, 2, 3, 4, 5] rfl)
    · refine lv_iload hx hb dX1_point_38 (lv_at hl 4 rfl) ?_
      refine lv_i2l (v := z9.toInt64) hx hb dX1_point_40 rfl ?_
      refine lv_ldc2 hx hb hown (hts _ q1129) dX1_point_41 ?_
      refine lv_ldc2 hx hb hown (hts _ q1130) dX1_point_44 ?_
      refine s_i (va_runS (As := [.long z9.toInt64, .long (-1000 : Int64), .long (1000 : Int64)]) (rest := []) ⟨hx, hb, hml, hown, hts⟩ (x1_isIn Z z9.toInt64 (-1000 : Int64) (1000 : Int64)) (va_cwS 3 hts (lw_S q332 q333 q96 q334) rfl rfl rfl (by decide +kernel) ⟨Nat.le_of_ble_eq_true rfl, Nat.le_of_ble_eq_true rfl⟩) (gP_S hG hS (fun q _ h => h.elim) trivial) rfl rfl hl.1 rfl (lv_room (Nat.le_of_ble_eq_true rfl)) dX1_point_47 ⟨by first | decide | omega | (show _ ≤ (14 : Nat); omega), by first | decide | omega | (show _ ≤ (160 : Nat); omega)⟩) ?_
      refine e_i (y := bI (inB z9 (-1000) (nI 1000))) (congrArg bI (inL_B z9 (-1000) (nI 1000))) ?_
      refine lv_if_eq (tgt := 70) hx hb dX1_point_50 (by decide) (fun c_50 => ?_) (fun c_50 => ?_)
      · refine lv_iconst (v := nI 0) hx hb dX1_point_70 (by decide) ?_
        refine e_i (y := bI false) (rfl) ?_
        exact J_2 false H locs ls (by unfold coB; rw [bI_1 c_21, bI_1 c_35, bI_0 c_50]; rfl) (hP.sub [0] rfl) (hD.sub [0] (by decide) rfl) hS (lv_sub hl [0, 1, 2, 3, 4, 5] rfl)
      · refine lv_iload hx hb dX1_point_53 (lv_at hl 5 rfl) ?_
        refine lv_i2l (v := d9.toInt64) hx hb dX1_point_55 rfl ?_
        refine lv_lconst (v := 1) hx hb dX1_point_56 rfl ?_
        refine lv_ldc2 hx hb hown (hts _ q1131) dX1_point_57 ?_
        refine s_i (va_runS (As := [.long d9.toInt64, .long 1, .long (100 : Int64)]) (rest := []) ⟨hx, hb, hml, hown, hts⟩ (x1_isIn Z d9.toInt64 1 (100 : Int64)) (va_cwS 3 hts (lw_S q332 q333 q96 q334) rfl rfl rfl (by decide +kernel) ⟨Nat.le_of_ble_eq_true rfl, Nat.le_of_ble_eq_true rfl⟩) (gP_S hG hS (fun q _ h => h.elim) trivial) rfl rfl hl.1 rfl (lv_room (Nat.le_of_ble_eq_true rfl)) dX1_point_60 ⟨by first | decide | omega | (show _ ≤ (14 : Nat); omega), by first | decide | omega | (show _ ≤ (160 : Nat); omega)⟩) ?_
        refine e_i (y := bI (inB d9 (nI 1) (nI 100))) (congrArg bI (inL_B d9 (nI 1) (nI 100))) ?_
        refine lv_if_eq (tgt := 70) hx hb dX1_point_63 (by decide) (fun c_63 => ?_) (fun c_63 => ?_)
        · refine lv_iconst (v := nI 0) hx hb dX1_point_70 (by decide) ?_
          refine e_i (y := bI false) (rfl) ?_
          exact J_2 false H locs ls (by unfold coB; rw [bI_1 c_21, bI_1 c_35, bI_1 c_50, bI_0 c_63]; rfl) (hP.sub [0] rfl) (hD.sub [0] (by decide) rfl) hS (lv_sub hl [0, 1, 2, 3, 4, 5] rfl)
        · refine lv_iconst (v := nI 1) hx hb dX1_point_66 (by decide) ?_
          refine lv_goto (tgt := 71) hx hb dX1_point_67 (by decide) ?_
          refine e_i (y := bI true) (rfl) ?_
          exact J_2 true H locs ls (by unfold coB; rw [bI_1 c_21, bI_1 c_35, bI_1 c_50, bI_1 c_63]; rfl) (hP.sub [0] rfl) (hD.sub [0] (by decide) rfl) hS (lv_sub hl [0, 1, 2, 3, 4, 5] rfl)
