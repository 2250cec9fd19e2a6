section MPX
variable {p q r : Nat} {Ms : Nat → MV} {M : MV} {f : Nat}
theorem of_0 {b : Nat} (hb : b < 32) : ofS b 0 1 = some (numM 0) := by
  unfold ofS
  rw [show vp_updL (fun _ => (0 : Int64)) b 0 = fun _ => 0 from by
    funext j
    by_cases e : j = b
    · subst e; rw [pk_uLs]
    · rw [pk_uLn e]]
  rw [fitG_pos (by decide)]
  unfold fitS
  rw [show gA 1 (fun _ => 0) 32 = 1 from by decide +kernel, show pfB (1 / lN 1) (fun j => (0 : Int64) / lN 1) 32 = true from by decide +kernel, if_pos rfl]
  congr 1
  funext i
  show (if i = 0 then (1 : Int64) / lN 1 else 0 / lN 1) = if i = 0 then 1 else if i = 1 then 0 else 0
  rw [div_1, div_1, ite_self]
def atZ (v : Int64) : Nat → Int64 := fun j => if j = 0 then v else 0
theorem gA_atZ (u v : Int64) : ∀ n, gA u (atZ v) (n + 1) = Nat.gcd (aN u) (aN v)
  | 0 => rfl
  | n + 1 => by
    show Nat.gcd (gA u (atZ v) (n + 1)) (aN (if n + 1 = 0 then v else 0)) = _
    rw [gA_atZ u v n, if_neg (by omega), show aN 0 = 0 from by decide, Nat.gcd_zero_right]
theorem aN_b {v : Int64} (h : sm8 v) : aN v ≤ 100000000 := by unfold sm8 at h; unfold aN; omega
theorem fr_eq {u v : Int64} (hu : 0 < u.toInt) (hu8 : sm8 u) (hv : sm8 v) : fitS (u / gcdL v u) (atZ (v / gcdL v u)) = fitS u (atZ v) := by
  have h0 : 0 < aN u := by unfold aN; omega
  have hb := aN_b hu8
  obtain ⟨g, hg⟩ : ∃ g, g = Nat.gcd (aN v) (aN u) := ⟨_, rfl⟩
  have hg0 : 0 < g := by rw [hg]; exact Nat.gcd_pos_of_pos_right _ h0
  have hgl : g ≤ aN u := by rw [hg]; exact Nat.le_of_dvd h0 (Nat.gcd_dvd_right _ _)
  have hg2 : g < 2 ^ 63 := by omega
  have e : gcdL v u = lN g := by rw [hg]; rfl
  rw [e]
  have hn : ∀ x : Int64, sm8 x → aN (x / lN g) = aN x / g := fun x hx => by
    have h1 := div_small hx (by decide) hg0 hg2
    have h2 := div_aN hx hg0 hg2
    rw [absL_lN (ne_min_of h1 (by decide))] at h2
    have h3 : aN (x / lN g) < 2 ^ 63 := by have := aN_b h1; omega
    have h4 : aN x / g < 2 ^ 63 := by have := aN_b hx; have := Nat.div_le_self (aN x) g; omega
    exact (pk_lEQ h3 h4).mp h2
  have hc : Nat.gcd (aN (u / lN g)) (aN (v / lN g)) = 1 := by
    rw [hn u hu8, hn v hv, hg, Nat.gcd_comm (aN v)]
    exact Nat.gcd_div_gcd_div_gcd_of_pos_left h0
  have hf : ∀ j, atZ (v / lN g) j = atZ v j / lN g := fun j => by
    unfold atZ
    by_cases c : j = 0
    · rw [if_pos c, if_pos c]
    · rw [if_neg c, if_neg c, lz_div]
  unfold fitS
  rw [gA_atZ _ _ 31, gA_atZ _ _ 31, hc, Nat.gcd_comm (aN u), ← hg]
  simp only [div_1, hf]
theorem fr_g (sM : MSm M) {k : Nat} : ∃ g, gcdL (M (k + 1)) (M 0) = lN g ∧ 0 < g ∧ g < 2 ^ 63 ∧ g ∣ aN (M 0) := by
  have h1 := sM.1
  have h2 := sM.u
  have h0 : 0 < aN (M 0) := by unfold aN; omega
  have hb := aN_b (show sm8 (M 0) from h2)
  refine ⟨Nat.gcd (aN (M (k + 1))) (aN (M 0)), rfl, Nat.gcd_pos_of_pos_right _ h0, ?_, Nat.gcd_dvd_right _ _⟩
  have := Nat.le_of_dvd h0 (Nat.gcd_dvd_right (aN (M (k + 1))) (aN (M 0)))
  omega
theorem fr_x (sM : MSm M) {k : Nat} (hk : k < 32) : sm8 (M (k + 1) / gcdL (M (k + 1)) (M 0)) := by
  obtain ⟨g, e, h0, h2, -⟩ := fr_g sM (k := k)
  rw [e]; exact div_small (sM.c hk) (by decide) h0 h2
theorem fr_y (sM : MSm M) {k : Nat} (_hk : k < 32) : sm8 (M 0 / gcdL (M (k + 1)) (M 0)) := by
  obtain ⟨g, e, h0, h2, -⟩ := fr_g sM (k := k)
  rw [e]; exact div_small sM.u (by decide) h0 h2
theorem fr_u (sM : MSm M) {k : Nat} (_hk : k < 32) : 0 < (numM 0 0 * (M 0 / gcdL (M (k + 1)) (M 0))).toInt := by
  obtain ⟨g, e, h0, h2, h3⟩ := fr_g sM (k := k)
  rw [e]
  show 0 < (1 * (M 0 / lN g)).toInt
  rw [Int64.one_mul]
  exact div_pos' sM.1 h3 h0
theorem mt_0 (sM : MSm M) {k : Nat} (hk : k < 32) : fitS (numM 0 0 * (M 0 / gcdL (M (k + 1)) (M 0))) (setR 0 (M (k + 1) / gcdL (M (k + 1)) (M 0)) (M 0 / gcdL (M (k + 1)) (M 0)) (numM 0)) = mtS p q r M k Ms f 0 := by
  have h1 : numM 0 0 * (M 0 / gcdL (M (k + 1)) (M 0)) = M 0 / gcdL (M (k + 1)) (M 0) := Int64.one_mul _
  have h2 : setR 0 (M (k + 1) / gcdL (M (k + 1)) (M 0)) (M 0 / gcdL (M (k + 1)) (M 0)) (numM 0) = atZ (M (k + 1) / gcdL (M (k + 1)) (M 0)) := by
    funext j
    show (if j = 0 then _ * (1 : Int64) else (if j + 1 = 0 then 1 else if j + 1 = 1 then 0 else 0) * _) = if j = 0 then _ else 0
    by_cases c : j = 0
    · rw [if_pos c, if_pos c, Int64.mul_one]
    · rw [if_neg c, if_neg c, if_neg (by omega), ite_self, Int64.zero_mul]
  rw [h1, h2, fr_eq sM.1 sM.u (sM.c hk)]
  show _ = scaS 1 1 (frcM (M 0) (M (k + 1)))
  unfold scaS
  have h3 : scaU 1 (frcM (M 0) (M (k + 1))) = M 0 := by
    show M 0 * 1 * sgL 1 = _
    rw [show sgL 1 = 1 from rfl, Int64.mul_one, Int64.mul_one]
  have h4 : scaR 1 1 (frcM (M 0) (M (k + 1))) = atZ (M (k + 1)) := by
    funext j
    show (if j + 1 = 0 then M 0 else if j + 1 = 1 then M (k + 1) else 0) * 1 * sgL 1 = if j = 0 then M (k + 1) else 0
    rw [show sgL 1 = 1 from rfl, Int64.mul_one, Int64.mul_one, if_neg (by omega)]
    by_cases c : j = 0
    · rw [if_pos c, if_pos (by omega)]
    · rw [if_neg c, if_neg (by omega)]
  rw [h3, h4]
theorem mt_n {k b : Nat} {T : MV} (h : mtS p q r M b Ms f k = some T) (hb : ¬ b / 2 ^ k &&& 1 = 1) : mtS p q r M b Ms f (k + 1) = some T := by
  show (match mtS p q r M b Ms f k with | none => none | some P => if b / 2 ^ k &&& 1 = 1 then mulS 3 p q r P (Ms (f + k)) else some P) = _
  rw [h]; exact if_neg hb
theorem mt_y {k b : Nat} {T T2 : MV} (h : mtS p q r M b Ms f k = some T) (hb : b / 2 ^ k &&& 1 = 1) (e : mulS (1 + 2) p q r T (Ms (f + k)) = some T2) : mtS p q r M b Ms f (k + 1) = some T2 := by
  show (match mtS p q r M b Ms f k with | none => none | some P => if b / 2 ^ k &&& 1 = 1 then mulS 3 p q r P (Ms (f + k)) else some P) = _
  rw [h]; exact (if_pos hb).trans e
theorem mt_x {k b : Nat} {T : MV} (h : mtS p q r M b Ms f k = some T) (hb : b / 2 ^ k &&& 1 = 1) (e : mulS (1 + 2) p q r T (Ms (f + k)) = none) : mtS p q r M b Ms f (k + 1) = none := by
  show (match mtS p q r M b Ms f k with | none => none | some P => if b / 2 ^ k &&& 1 = 1 then mulS 3 p q r P (Ms (f + k)) else some P) = _
  rw [h]; exact (if_pos hb).trans e
theorem mp_k {a b : Nat} {S : MV} (hab : a ≤ b) (h : mpS p q r M Ms f a = some S) (hz : ∀ j, a ≤ j → j < b → M (j + 1) = 0) : mpS p q r M Ms f b = some S := by
  induction hab with
  | refl => exact h
  | step hm ih =>
    show (match mpS p q r M Ms f _ with | none => none | some S => if M (_ + 1) = 0 then some S else match mtS p q r M _ Ms f (p + q + r) with | none => none | some T => addS (nI 1) S T) = _
    rw [ih (fun j h1 h2 => hz j h1 (by omega))]
    exact if_pos (hz _ hm (Nat.lt_succ_self _))
theorem mp_z (hzf : nxF M 0 = 32) : mpS p q r M Ms f 32 = some (numM 0) := mp_k (Nat.zero_le _) rfl (fun j a b => nx_z (i := 0) j a (by omega))
theorem mp_lt {k : Nat} (pM : MSp (2 ^ (p + q + r)) M) (hk : k < 32) (hz : ¬ M (k + 1) = 0) : k < 2 ^ (p + q + r) := by
  apply Decidable.byContradiction
  intro c
  exact hz (pM k (by omega) hk)
theorem mp_s {b : Nat} {S T C : MV} (h : mpS p q r M Ms f b = some S) (hz : ¬ M (b + 1) = 0) (ht : mtS p q r M b Ms f (p + q + r) = some T) (e : addS (nI 1) S T = some C) : mpS p q r M Ms f (b + 1) = some C := by
  show (match mpS p q r M Ms f b with | none => none | some S => if M (b + 1) = 0 then some S else match mtS p q r M b Ms f (p + q + r) with | none => none | some T => addS (nI 1) S T) = _
  rw [h]; dsimp only; rw [if_neg hz, ht]; exact e
theorem mp_n {b : Nat} {S : MV} (h : mpS p q r M Ms f b = some S) (hz : ¬ M (b + 1) = 0) (hb : b < 32) (ht : mtS p q r M b Ms f (p + q + r) = none) : mpS p q r M Ms f 32 = none := by
  refine mpS_none (n := b + 1) ?_ (by omega)
  show (match mpS p q r M Ms f b with | none => none | some S => if M (b + 1) = 0 then some S else match mtS p q r M b Ms f (p + q + r) with | none => none | some T => addS (nI 1) S T) = _
  rw [h]; dsimp only; rw [if_neg hz, ht]
theorem mp_a {b : Nat} {S T : MV} (h : mpS p q r M Ms f b = some S) (hz : ¬ M (b + 1) = 0) (hb : b < 32) (ht : mtS p q r M b Ms f (p + q + r) = some T) (e : addS (nI 1) S T = none) : mpS p q r M Ms f 32 = none := by
  refine mpS_none (n := b + 1) ?_ (by omega)
  show (match mpS p q r M Ms f b with | none => none | some S => if M (b + 1) = 0 then some S else match mtS p q r M b Ms f (p + q + r) with | none => none | some T => addS (nI 1) S T) = _
  rw [h]; dsimp only; rw [if_neg hz, ht]; exact e
end MPX
set_option maxHeartbeats 4000000 in
theorem x1_mapped0 {l : Launch} {dC : Nat → ClassId} {dI : Nat → Nat → Nat} {dA : Nat → ClassId} {s0 : State} {b0 : Addr} (Z : Z0 l dC dI dA s0 b0) (A : Nat → Prop) (sz : Nat) (hA : ∀ q : Nat, sz ≤ q → A q) {σ : Nat → Nat} (Y : SS (dC, dI) dA σ s0) (xa : Nat → Nat) (tl : Nat) (ec ep : Int32) (ga sg : Nat) (sr : Nat → Nat) (p0 q0 r0 : Nat) (rm rr : Nat → Nat) (Ms : Nat → MV) (ma mr : Nat) (M : MV) (fN : Nat) (sR : ∀ k, k < 8 → MSm (Ms k)) (sM : MSm M) (pM : MSp (2 ^ (p0 + q0 + r0)) M) (hf8 : fN + (p0 + q0 + r0) ≤ 8) (hzf : nxF M 0 = 32) : Met l yX1_mapped (ws_ yX1_mapped cX1_mapped 8 (some (.object "BladeAlgebra$Multi"))) ({ frames := 9, cells := 1, slots := 2, locals := 540 } : Room) (gP [.ref (xa 0), .ref ma, .int (nI fN)] s0 A (fun H => H.size = sz ∧ RO A (dC, dI) [((xa 0), .inr (3, xFs xa tl ec ep)), ((xa 3), .inr (4, [.ref ga, .ref (xa 7)]))] H ∧ RO A (dC, dI) [(ma, .inr (0, [.ref mr, .long (M 0)])), (mr, .inl (dA 1, 32, .inr (.inl (fun j => M (j + 1)))))] H ∧ RO A (dC, dI) [((xa 7), .inl (dA 4, 8, .inr (.inr (.inr (.inr (fun k => some (rm k)))))))] H ∧ AG A (dC, dI) dA ga sg sr p0 q0 r0 H ∧ RG A (dC, dI) dA rm rr Ms H)) (va_Qr (S := Unit) (fun _ => mpS p0 q0 r0 M Ms fN 32 = some (numM 0)) (B1r (dC, dI) A (fun _ _ => []) (fun _ q9 _ => q9 = σ 1)) A) 1 2 A := by
  refine Met.ofW (cc := cX1_mapped) (maxL := 8) (ret := (some (.object "BladeAlgebra$Multi"))) (by decide) rfl ?_
  intro p e s m args below meth c s₁ B hml hv
  obtain ⟨hav, hG, hsz, hR0, hR1, hR2, hAG, hRG⟩ := hv
  have hx := B.exec
  have hb := B.bytes
  have hr := B.returns
  have hts := atoms_spec (ws := (ws_ yX1_mapped cX1_mapped 8 (some (.object "BladeAlgebra$Multi")))) B.pre
  have hts : ∀ w ∈ lw_all, w.before _ s = true := fun w h => hts w (List.mem_cons_of_mem _ h)
  have hown : s.vm.findClass RX1 = some m.cls := findClass_of_methodNamed B.named
  have hlocks := B.notSynchronized
  have hK := hG.K Z
  subst hsz
  have hS : va_S A s.heap s.heap [] := va_S.rf
  have hP : va_P (dC, dI) vwCl [] s.heap := fun k q h => by simp at h
  have hD : va_D A [] := ⟨fun i j p q h => by simp at h, fun k q h => by simp at h⟩
  have hl := lv_entry ([.ref (xa 0), .ref ma, .int (nI fN)]) (n := 8) (Nat.le_of_ble_eq_true rfl)
  rw [show entryFrame m args 8 = entryFrame m ([.ref (xa 0), .ref ma, .int (nI fN)] : List Value).toArray 8 from by rw [hav], lg_entry_eq]
  generalize (lg_sl ([.ref (xa 0), .ref ma, .int (nI fN)]) ++ List.replicate (8 - (lg_sl ([.ref (xa 0), .ref ma, .int (nI fN)])).length) Slot.unset).toArray = ls at hl ⊢
  have hl : lv_has ls 8 [(0, .ref (xa 0)), (1, .ref ma), (2, .int (nI fN))] := hl
  generalize hQe : MQ below _ _ s _ _ _ = Q
  change W p l e ({ frames := 9, cells := 1, slots := 2, locals := 540 } : Room) s m args below meth c s.heap [] 0 0 Q (F0 m 0 ls [])
  have hn := hAG.1
  have h5 := pow5 hn
  have hR3 := hAG.2.1
  have hR4 := hG.RO (SS.zero Y).2
  refine va_gets (v := .ref (σ 1)) hx hb (hG.Z Z (SS.zero Y).1) hS hown (hts _ q923) (fun _ h9 => h9) dX1_mapped_0 ?_
  refine lv_astore_n (lv' := [(3, .ref (σ 1)), (0, .ref (xa 0)), (1, .ref ma), (2, .int (nI fN))]) hx hb dX1_mapped_3 rfl hl (by decide) rfl (fun ls hl => ?_)
  refine lv_aload_n hx hb dX1_mapped_4 rfl (lv_at hl 2 rfl) ?_
  have hF9 := va_free (wc := []) hD hS (fun q h => hA q h) [] rfl
  refine c_r (wr := []) (va_runV (As := []) (rest := []) ⟨hx, hb, hml, hown, hts⟩ (x6_iterator Z (va_A [] s.heap.size) s.heap.size (fun q h => Or.inr h) ma mr M) (cwV 0 hts (lw_V q924 q925 q926 q102 q927) rfl rfl rfl (by decide +kernel) ⟨Nat.le_of_ble_eq_true rfl, Nat.le_of_ble_eq_true rfl⟩) (gP_V (va_recv hK (hR1.up hS) (ci := 0) (q0 := 0) rfl rfl) hG hS (fun q _ h => hF9 q h) ⟨rfl, (hR1.to hS (fun q _ h => hF9 q h))⟩) rfl rfl hl.1 rfl (lv_room (Nat.le_of_ble_eq_true rfl)) dX1_mapped_5 ⟨by first | decide | omega | (show _ ≤ (1 : Nat); omega), by first | decide | omega | (show _ ≤ (2 : Nat); omega)⟩) hP hD hS hA [] [] rfl rfl (by decide) (by decide) (fun u9 ra9 H locs hq hX hz hk hP hD hS => ?_)
  obtain ⟨ra_1, rfl⟩ : ∃ z, z = ra9 := ⟨_, rfl⟩
  have hP : va_P (dC, dI) vwCl [(ra_1, .inr (6, [.int (nI (nxF M 0)), .ref ma]))] H := hP
  have hD : va_D A [(ra_1, .inr (6, [.int (nI (nxF M 0)), .ref ma]))] := hD
  refine lv_astore (lv' := [(4, .ref ra_1), (3, .ref (σ 1)), (0, .ref (xa 0)), (1, .ref ma), (2, .int (nI fN))]) hx hb dX1_mapped_8 hl (by decide) rfl (fun ls hl => ?_)
  refine lv_aload hx hb dX1_mapped_10 (lv_at hl 0 rfl) ?_
  have hF9 := va_free (wc := [(ra_1, .inr (6, [.int (nI (nxF M 0)), .ref ma]))]) hD hS (fun q h => hA q h) [0] rfl
  refine c5_i (wr := []) (va_runF (As := []) (rest := []) (hK.1 6 _ rfl).2 ⟨hx, hb, hml, hown, hts⟩ (x10_hasNext Z (va_A [(ra_1, .inr (6, [.int (nI (nxF M 0)), .ref ma]))] H.size) H.size (fun q h => Or.inr h) ra_1 ma (nxF M 0) (by omega)) (va_cwF 0 hts (lw_F q946 q950 q952 q120 q954) rfl rfl rfl (fwZ Z hG (by decide +kernel) q948 q947 q953 q951 q949) (by decide +kernel) ⟨Nat.le_of_ble_eq_true rfl, Nat.le_of_ble_eq_true rfl⟩) (gP_V (va_recv hK hP (ci := 6) (q0 := 0) rfl rfl) hG hS (fun q _ h => hF9 q h) ⟨rfl, (hP.sub (ws' := [(ra_1, .inr (6, [.int (nI (nxF M 0)), .ref ma]))]) [0] rfl), (hD.sub (ws' := [(ra_1, .inr (6, [.int (nI (nxF M 0)), .ref ma]))]) [0] (by decide) rfl).self⟩) rfl rfl hl.1 rfl (lv_room (Nat.le_of_ble_eq_true rfl)) dX1_mapped_12 ⟨by first | decide | omega | (show _ ≤ (1 : Nat); omega), by first | decide | omega | (show _ ≤ (2 : Nat); omega)⟩) hP hD hS hA [0] [] rfl rfl (by decide) (by decide) (fun r9 u9 H locs hq hX hz hk hP hD hS => ?_)
  have hr9 := hq
  clear hq
  obtain ⟨r_2, rfl⟩ : ∃ z, z = r9 := ⟨_, rfl⟩
  subst hr9
  have hP : va_P (dC, dI) vwCl [(ra_1, .inr (6, [.int (nI (nxF M 0)), .ref ma]))] H := hP
  have hD : va_D A [(ra_1, .inr (6, [.int (nI (nxF M 0)), .ref ma]))] := hD
  refine lv_if_eq (tgt := 136) hx hb dX1_mapped_17 (by decide) (fun c_17 => ?_) (fun c_17 => ?_)
  · refine lv_aload_n hx hb dX1_mapped_136 rfl (lv_at hl 1 rfl) ?_
    subst hQe
    refine W.widen (k := 1) (n := 2) (by first | decide | omega) (by first | decide | omega) ?_
    exact W.aret (v := .ref (σ 1)) hx hb hr (Or.inl ⟨_, rfl⟩) (Or.inr ⟨_, rfl⟩) (fun tz ht hW => ⟨⟨(), _, rfl, mp_z hzf, B1r_at ht (hP.sub [] rfl) (hD.sub [] (by decide) rfl) rfl⟩, hS.F ht⟩) hS.2.2 dX1_mapped_137
  · exact absurd (of_decide_eq_true (bI_1 c_17)) (by omega)
set_option maxHeartbeats 4000000 in
theorem x1_mapped {l : Launch} {dC : Nat → ClassId} {dI : Nat → Nat → Nat} {dA : Nat → ClassId} {s0 : State} {b0 : Addr} (Z : Z0 l dC dI dA s0 b0) (A : Nat → Prop) (sz : Nat) (hA : ∀ q : Nat, sz ≤ q → A q) {σ : Nat → Nat} (Y : SS (dC, dI) dA σ s0) (xa : Nat → Nat) (tl : Nat) (ec ep : Int32) (ga sg : Nat) (sr : Nat → Nat) (p0 q0 r0 : Nat) (rm rr : Nat → Nat) (Ms : Nat → MV) (ma mr : Nat) (M : MV) (fN : Nat) (sR : ∀ k, k < 8 → MSm (Ms k)) (sM : MSm M) (pM : MSp (2 ^ (p0 + q0 + r0)) M) (hf8 : fN + (p0 + q0 + r0) ≤ 8) (hzf : nxF M 0 < 32) : vx_Met l yX1_mapped (ws_ yX1_mapped cX1_mapped 8 (some (.object "BladeAlgebra$Multi"))) ({ frames := 9, cells := 545, slots := 9826, locals := 540 } : Room) (gP [.ref (xa 0), .ref ma, .int (nI fN)] s0 A (fun H => H.size = sz ∧ RO A (dC, dI) [((xa 0), .inr (3, xFs xa tl ec ep)), ((xa 3), .inr (4, [.ref ga, .ref (xa 7)]))] H ∧ RO A (dC, dI) [(ma, .inr (0, [.ref mr, .long (M 0)])), (mr, .inl (dA 1, 32, .inr (.inl (fun j => M (j + 1)))))] H ∧ RO A (dC, dI) [((xa 7), .inl (dA 4, 8, .inr (.inr (.inr (.inr (fun k => some (rm k)))))))] H ∧ AG A (dC, dI) dA ga sg sr p0 q0 r0 H ∧ RG A (dC, dI) dA rm rr Ms H)) (va_Qr (S := Nat × MV) (fun u => mpS p0 q0 r0 M Ms fN 32 = some u.2) (B1r (dC, dI) A (fun u q => MA dA q u.1 u.2) (fun _ _ _ => True)) A) (vx_X (S := Unit) (fun _ => mpS p0 q0 r0 M Ms fN 32 = none) (fun _ E _ _ => E = "BladeAlgebra$Unfit") A) 545 9826 A := by
  refine vx_ofW (cc := cX1_mapped) (maxL := 8) (ret := (some (.object "BladeAlgebra$Multi"))) (by decide) rfl ?_
  intro p e s m args below meth c s₁ B hml hnoH hv
  obtain ⟨hav, hG, hsz, hR0, hR1, hR2, hAG, hRG⟩ := hv
  have hx := B.exec
  have hb := B.bytes
  have hr := B.returns
  have hts := atoms_spec (ws := (ws_ yX1_mapped cX1_mapped 8 (some (.object "BladeAlgebra$Multi")))) B.pre
  have hts : ∀ w ∈ lw_all, w.before _ s = true := fun w h => hts w (List.mem_cons_of_mem _ h)
  have hown : s.vm.findClass RX1 = some m.cls := findClass_of_methodNamed B.named
  have hlocks := B.notSynchronized
  have hK := hG.K Z
  subst hsz
  have hS : va_S A s.heap s.heap [] := va_S.rf
  have hP : va_P (dC, dI) vwCl [] s.heap := fun k q h => by simp at h
  have hD : va_D A [] := ⟨fun i j p q h => by simp at h, fun k q h => by simp at h⟩
  have hl := lv_entry ([.ref (xa 0), .ref ma, .int (nI fN)]) (n := 8) (Nat.le_of_ble_eq_true rfl)
  rw [show entryFrame m args 8 = entryFrame m ([.ref (xa 0), .ref ma, .int (nI fN)] : List Value).toArray 8 from by rw [hav], lg_entry_eq]
  generalize (lg_sl ([.ref (xa 0), .ref ma, .int (nI fN)]) ++ List.replicate (8 - (lg_sl ([.ref (xa 0), .ref ma, .int (nI fN)])).length) Slot.unset).toArray = ls at hl ⊢
  have hl : lv_has ls 8 [(0, .ref (xa 0)), (1, .ref ma), (2, .int (nI fN))] := hl
  generalize hQe : vx_MQ below _ _ _ s _ _ _ = Q
  change W p l e ({ frames := 9, cells := 545, slots := 9826, locals := 540 } : Room) s m args below meth c s.heap [] 0 0 Q (F0 m 0 ls [])
  have hn := hAG.1
  have h5 := pow5 hn
  have hR3 := hAG.2.1
  have hR4 := hG.RO (SS.zero Y).2
  refine va_gets (v := .ref (σ 1)) hx hb (hG.Z Z (SS.zero Y).1) hS hown (hts _ q923) (fun _ h9 => h9) dX1_mapped_0 ?_
  refine lv_astore_n (lv' := [(3, .ref (σ 1)), (0, .ref (xa 0)), (1, .ref ma), (2, .int (nI fN))]) hx hb dX1_mapped_3 rfl hl (by decide) rfl (fun ls hl => ?_)
  refine lv_aload_n hx hb dX1_mapped_4 rfl (lv_at hl 2 rfl) ?_
  have hF9 := va_free (wc := []) hD hS (fun q h => hA q h) [] rfl
  refine c_r (wr := []) (va_runV (As := []) (rest := []) ⟨hx, hb, hml, hown, hts⟩ (x6_iterator Z (va_A [] s.heap.size) s.heap.size (fun q h => Or.inr h) ma mr M) (cwV 0 hts (lw_V q924 q925 q926 q102 q927) rfl rfl rfl (by decide +kernel) ⟨Nat.le_of_ble_eq_true rfl, Nat.le_of_ble_eq_true rfl⟩) (gP_V (va_recv hK (hR1.up hS) (ci := 0) (q0 := 0) rfl rfl) hG hS (fun q _ h => hF9 q h) ⟨rfl, (hR1.to hS (fun q _ h => hF9 q h))⟩) rfl rfl hl.1 rfl (lv_room (Nat.le_of_ble_eq_true rfl)) dX1_mapped_5 ⟨by first | decide | omega | (show _ ≤ (545 : Nat); omega), by first | decide | omega | (show _ ≤ (9826 : Nat); omega)⟩) hP hD hS hA [] [] rfl rfl (by decide) (by decide) (fun u9 ra9 H locs hq hX hz hk hP hD hS => ?_)
  obtain ⟨ra_1, rfl⟩ : ∃ z, z = ra9 := ⟨_, rfl⟩
  have hP : va_P (dC, dI) vwCl [(ra_1, .inr (6, [.int (nI (nxF M 0)), .ref ma]))] H := hP
  have hD : va_D A [(ra_1, .inr (6, [.int (nI (nxF M 0)), .ref ma]))] := hD
  refine lv_astore (lv' := [(4, .ref ra_1), (3, .ref (σ 1)), (0, .ref (xa 0)), (1, .ref ma), (2, .int (nI fN))]) hx hb dX1_mapped_8 hl (by decide) rfl (fun ls hl => ?_)
  have hK9 : nxF M 0 < 32 := hzf
  have hKz := nx_nz (M := M) (i := 0) (by decide) hzf
  have hKn := mp_lt pM hzf hKz
  have hmp : mpS p0 q0 r0 M Ms fN (nxF M 0) = some (numM 0) := mp_k (Nat.zero_le _) rfl (fun j a b => nx_z j a b)
  have hKl := nx_le (M := M) (i := nxF M 0 + 1) (by omega)
  refine lv_aload hx hb dX1_mapped_10 (lv_at hl 0 rfl) ?_
  have hF9 := va_free (wc := [(ra_1, .inr (6, [.int (nI (nxF M 0)), .ref ma]))]) hD hS (fun q h => hA q h) [0] rfl
  refine c5_i (wr := []) (va_runF (As := []) (rest := []) (hK.1 6 _ rfl).2 ⟨hx, hb, hml, hown, hts⟩ (x10_hasNext Z (va_A [(ra_1, .inr (6, [.int (nI (nxF M 0)), .ref ma]))] H.size) H.size (fun q h => Or.inr h) ra_1 ma (nxF M 0) (by omega)) (va_cwF 0 hts (lw_F q946 q950 q952 q120 q954) rfl rfl rfl (fwZ Z hG (by decide +kernel) q948 q947 q953 q951 q949) (by decide +kernel) ⟨Nat.le_of_ble_eq_true rfl, Nat.le_of_ble_eq_true rfl⟩) (gP_V (va_recv hK hP (ci := 6) (q0 := 0) rfl rfl) hG hS (fun q _ h => hF9 q h) ⟨rfl, (hP.sub (ws' := [(ra_1, .inr (6, [.int (nI (nxF M 0)), .ref ma]))]) [0] rfl), (hD.sub (ws' := [(ra_1, .inr (6, [.int (nI (nxF M 0)), .ref ma]))]) [0] (by decide) rfl).self⟩) rfl rfl hl.1 rfl (lv_room (Nat.le_of_ble_eq_true rfl)) dX1_mapped_12 ⟨by first | decide | omega | (show _ ≤ (545 : Nat); omega), by first | decide | omega | (show _ ≤ (9826 : Nat); omega)⟩) hP hD hS hA [0] [] rfl rfl (by decide) (by decide) (fun r9 u9 H locs hq hX hz hk hP hD hS => ?_)
  have hr9 := hq
  clear hq
  obtain ⟨r_2, rfl⟩ : ∃ z, z = r9 := ⟨_, rfl⟩
  subst hr9
  have hP : va_P (dC, dI) vwCl [(ra_1, .inr (6, [.int (nI (nxF M 0)), .ref ma]))] H := hP
  have hD : va_D A [(ra_1, .inr (6, [.int (nI (nxF M 0)), .ref ma]))] := hD
  refine lv_if_eq (tgt := 136) hx hb dX1_mapped_17 (by decide) (fun c_17 => ?_) (fun c_17 => ?_)
  · exact absurd c_17 (by rw [decide_eq_true hK9]; decide)
  · refine lv_aload hx hb dX1_mapped_20 (lv_at hl 0 rfl) ?_
    have hF9 := va_free (wc := [(ra_1, .inr (6, [.int (nI (nxF M 0)), .ref ma]))]) hD hS (fun q h => hA q h) [0] rfl
    refine c5_r (wr := []) (va_runF (As := []) (rest := []) (hK.1 6 _ rfl).2 ⟨hx, hb, hml, hown, hts⟩ (x10_next Z (va_A [(ra_1, .inr (6, [.int (nI (nxF M 0)), .ref ma]))] H.size) H.size (fun q h => Or.inr h) ra_1 ma mr M (nxF M 0) (by omega) sM) (va_cwF 0 hts (lw_F q962 q965 q967 q120 q969) rfl rfl rfl (fwZ Z hG (by decide +kernel) q964 q963 q968 q966 q949) (by decide +kernel) ⟨Nat.le_of_ble_eq_true rfl, Nat.le_of_ble_eq_true rfl⟩) (gP_V (va_recv hK hP (ci := 6) (q0 := 0) rfl rfl) hG hS (fun q _ h => hF9 q h) ⟨rfl, (hP.sub (ws' := [(ra_1, .inr (6, [.int (nI (nxF M 0)), .ref ma]))]) [0] rfl), (hD.sub (ws' := [(ra_1, .inr (6, [.int (nI (nxF M 0)), .ref ma]))]) [0] (by decide) rfl).self, (hR1.to hS (fun q _ h => hF9 q h))⟩) rfl rfl hl.1 rfl (lv_room (Nat.le_of_ble_eq_true rfl)) dX1_mapped_22 ⟨by first | decide | omega | (show _ ≤ (545 : Nat); omega), by first | decide | omega | (show _ ≤ (9826 : Nat); omega)⟩) hP hD hS hA [0] [] rfl rfl (by decide) (by decide) (fun u9 ra9 H locs hq hX hz hk hP hD hS => ?_)
    obtain ⟨ra_3, rfl⟩ : ∃ z, z = ra9 := ⟨_, rfl⟩
    have hP : va_P (dC, dI) vwCl [(ra_1, .inr (6, [.int (nI (nxF M (nxF M 0 + 1))), .ref ma])), (ra_3, .inr (5, [.int (nI (nxF M 0)), .long (M (nxF M 0 + 1) / gcdL (M (nxF M 0 + 1)) (M 0)), .long (M 0 / gcdL (M (nxF M 0 + 1)) (M 0))]))] H := hP
    have hD : va_D A [(ra_1, .inr (6, [.int (nI (nxF M (nxF M 0 + 1))), .ref ma])), (ra_3, .inr (5, [.int (nI (nxF M 0)), .long (M (nxF M 0 + 1) / gcdL (M (nxF M 0 + 1)) (M 0)), .long (M 0 / gcdL (M (nxF M 0 + 1)) (M 0))]))] := hD
    refine va_castS hx hb hown (hts _ q579) (hK.1 5 _ rfl).2 (va_recv hK hP (ci := 5) (q0 := 1) rfl rfl) dX1_mapped_27 ?_
    refine lv_astore (lv' := [(5, .ref ra_3), (4, .ref ra_1), (3, .ref (σ 1)), (0, .ref (xa 0)), (1, .ref ma), (2, .int (nI fN))]) hx hb dX1_mapped_30 hl (by decide) rfl (fun ls hl => ?_)
    refine lv_aload hx hb dX1_mapped_32 (lv_at hl 0 rfl) ?_
    refine va_getN (D := (dC, dI)) (ci := 5) (v := .int (nI (nxF M 0))) (C := RX9) (T := TX9) (N := 3) hx hb hts in_X9 hown hK hP 1 rfl rfl 0 (by decide) (((va_Nw.warmF hG.1 (va_Nw.of rfl (Z.2.1 _ q587)))).use rfl) (fun _ h9 => h9) rfl dX1_mapped_34 ?_
    refine lv_lconst (v := 0) hx hb dX1_mapped_37 rfl ?_
    refine lv_lconst (v := 1) hx hb dX1_mapped_38 rfl ?_
    have hF9 := va_free (wc := []) hD hS (fun q h => hA q h) [] rfl
    refine x_r (wc := []) (wr := [(ra_1, .inr (6, [.int (nI (nxF M (nxF M 0 + 1))), .ref ma])), (ra_3, .inr (5, [.int (nI (nxF M 0)), .long (M (nxF M 0 + 1) / gcdL (M (nxF M 0 + 1)) (M 0)), .long (M 0 / gcdL (M (nxF M 0 + 1)) (M 0))]))]) (vx_runS (As := [.int (nI (nxF M 0)), .long 0, .long 1]) (rest := []) ⟨hx, hb, hml, hown, hts⟩ (x6_of Z (va_A [] H.size) H.size (fun q h => Or.inr h) Y (nxF M 0) 0 1 (by omega) (by decide) (by decide) (by decide)) (va_cwS 3 hts (lw_S q858 q819 q102 q820) rfl rfl rfl (by decide +kernel) ⟨Nat.le_of_ble_eq_true rfl, Nat.le_of_ble_eq_true rfl⟩) (gP_S hG hS (fun q _ h => hF9 q h) rfl) rfl rfl hl.1 rfl (lv_room (Nat.le_of_ble_eq_true rfl)) dX1_mapped_39 ⟨by first | decide | omega | (show _ ≤ (545 : Nat); omega), by first | decide | omega | (show _ ≤ (9826 : Nat); omega)⟩) hP hD hS hA [] [0, 1] rfl rfl (by decide) (by decide) (fun E ce q9 u9 t9 H locs ht9 hp9 hb9 hz hP hS h1 h2 h3 => ?_) (fun u9 ra9 H locs hq hX hz hk hP hD hS => ?_)
    · have hD := hD.sub (ws' := [(ra_1, .inr (6, [.int (nI (nxF M (nxF M 0 + 1))), .ref ma])), (ra_3, .inr (5, [.int (nI (nxF M 0)), .long (M (nxF M 0 + 1) / gcdL (M (nxF M 0 + 1)) (M 0)), .long (M 0 / gcdL (M (nxF M 0 + 1)) (M 0))]))]) [0, 1] (by decide) rfl
      have hP : va_P (dC, dI) vwCl [(ra_1, .inr (6, [.int (nI (nxF M (nxF M 0 + 1))), .ref ma])), (ra_3, .inr (5, [.int (nI (nxF M 0)), .long (M (nxF M 0 + 1) / gcdL (M (nxF M 0 + 1)) (M 0)), .long (M 0 / gcdL (M (nxF M 0 + 1)) (M 0))]))] H := hP
      have hD : va_D A [(ra_1, .inr (6, [.int (nI (nxF M (nxF M 0 + 1))), .ref ma])), (ra_3, .inr (5, [.int (nI (nxF M 0)), .long (M (nxF M 0 + 1) / gcdL (M (nxF M 0 + 1)) (M 0)), .long (M 0 / gcdL (M (nxF M 0 + 1)) (M 0))]))] := hD
      subst hb9
      rw [of_0 hK9] at hp9; cases hp9
    obtain ⟨ra_4, rfl⟩ : ∃ z, z = ra9 := ⟨_, rfl⟩
    obtain ⟨mr_4, M_4⟩ := u9
    have e_4 := hq
    have sm_4 : MSm M_4 := fitG_sm (by decide) (by decide) e_4
    clear hq
    have hP : va_P (dC, dI) vwCl [(ra_1, .inr (6, [.int (nI (nxF M (nxF M 0 + 1))), .ref ma])), (ra_3, .inr (5, [.int (nI (nxF M 0)), .long (M (nxF M 0 + 1) / gcdL (M (nxF M 0 + 1)) (M 0)), .long (M 0 / gcdL (M (nxF M 0 + 1)) (M 0))])), (ra_4, .inr (0, [.ref mr_4, .long (M_4 0)])), (mr_4, .inl (dA 1, 32, .inr (.inl (fun j => M_4 (j + 1)))))] H := hP
    have hD : va_D A [(ra_1, .inr (6, [.int (nI (nxF M (nxF M 0 + 1))), .ref ma])), (ra_3, .inr (5, [.int (nI (nxF M 0)), .long (M (nxF M 0 + 1) / gcdL (M (nxF M 0 + 1)) (M 0)), .long (M 0 / gcdL (M (nxF M 0 + 1)) (M 0))])), (ra_4, .inr (0, [.ref mr_4, .long (M_4 0)])), (mr_4, .inl (dA 1, 32, .inr (.inl (fun j => M_4 (j + 1)))))] := hD
    obtain rfl : M_4 = numM 0 := Option.some.inj (e_4.symm.trans (of_0 hK9))
    refine lv_iconst (v := nI 0) hx hb dX1_mapped_42 (by decide) ?_
    refine lv_aload hx hb dX1_mapped_43 (lv_at hl 0 rfl) ?_
    refine va_getN (D := (dC, dI)) (ci := 5) (v := .long (M (nxF M 0 + 1) / gcdL (M (nxF M 0 + 1)) (M 0))) (C := RX9) (T := TX9) (N := 3) hx hb hts in_X9 hown hK hP 1 rfl rfl 1 (by decide) (((va_Nw.warmF hG.1 (va_Nw.of rfl (Z.2.1 _ q589)))).use rfl) (fun _ h9 => h9) rfl dX1_mapped_45 ?_
    refine lv_aload hx hb dX1_mapped_48 (lv_at hl 0 rfl) ?_
    refine va_getN (D := (dC, dI)) (ci := 5) (v := .long (M 0 / gcdL (M (nxF M 0 + 1)) (M 0))) (C := RX9) (T := TX9) (N := 3) hx hb hts in_X9 hown hK hP 1 rfl rfl 2 (by decide) (((va_Nw.warmF hG.1 (va_Nw.of rfl (Z.2.1 _ q591)))).use rfl) (fun _ h9 => h9) rfl dX1_mapped_50 ?_
    have hF9 := va_free (wc := []) hD hS (fun q h => hA q h) [] rfl
    refine x_r (wc := []) (wr := [(ra_1, .inr (6, [.int (nI (nxF M (nxF M 0 + 1))), .ref ma])), (ra_3, .inr (5, [.int (nI (nxF M 0)), .long (M (nxF M 0 + 1) / gcdL (M (nxF M 0 + 1)) (M 0)), .long (M 0 / gcdL (M (nxF M 0 + 1)) (M 0))])), (ra_4, .inr (0, [.ref mr_4, .long ((numM 0) 0)])), (mr_4, .inl (dA 1, 32, .inr (.inl (fun j => (numM 0) (j + 1)))))]) (vx_runV (As := [.int (nI 0), .long (M (nxF M 0 + 1) / gcdL (M (nxF M 0 + 1)) (M 0)), .long (M 0 / gcdL (M (nxF M 0 + 1)) (M 0))]) (rest := []) ⟨hx, hb, hml, hown, hts⟩ (x6_with Z (va_A [] H.size) H.size (fun q h => Or.inr h) Y ra_4 mr_4 (numM 0) 0 (M (nxF M 0 + 1) / gcdL (M (nxF M 0 + 1)) (M 0)) (M 0 / gcdL (M (nxF M 0 + 1)) (M 0)) (by omega) (fr_x sM hK9) (fr_y sM hK9) (fr_u sM hK9) sm_4) (cwV 3 hts (lw_V q501 q502 q503 q102 q504) rfl rfl rfl (by decide +kernel) ⟨Nat.le_of_ble_eq_true rfl, Nat.le_of_ble_eq_true rfl⟩) (gP_V (va_recv hK hP (ci := 0) (q0 := 2) rfl rfl) hG hS (fun q _ h => hF9 q h) ⟨rfl, (RO.beside (wr := [(ra_4, .inr (0, [.ref mr_4, .long ((numM 0) 0)])), (mr_4, .inl (dA 1, 32, .inr (.inl (fun j => (numM 0) (j + 1)))))]) hP hD [] [2, 3] rfl rfl (by decide))⟩) rfl rfl hl.1 rfl (lv_room (Nat.le_of_ble_eq_true rfl)) dX1_mapped_53 ⟨by first | decide | omega | (show _ ≤ (545 : Nat); omega), by first | decide | omega | (show _ ≤ (9826 : Nat); omega)⟩) hP hD hS hA [] [0, 1, 2, 3] rfl rfl (by decide) (by decide) (fun E ce q9 u9 t9 H locs ht9 hp9 hb9 hz hP hS h1 h2 h3 => ?_) (fun u9 ra9 H locs hq hX hz hk hP hD hS => ?_)
    · have hD := hD.sub (ws' := [(ra_1, .inr (6, [.int (nI (nxF M (nxF M 0 + 1))), .ref ma])), (ra_3, .inr (5, [.int (nI (nxF M 0)), .long (M (nxF M 0 + 1) / gcdL (M (nxF M 0 + 1)) (M 0)), .long (M 0 / gcdL (M (nxF M 0 + 1)) (M 0))])), (ra_4, .inr (0, [.ref mr_4, .long ((numM 0) 0)])), (mr_4, .inl (dA 1, 32, .inr (.inl (fun j => (numM 0) (j + 1)))))]) [0, 1, 2, 3] (by decide) rfl
      have hP : va_P (dC, dI) vwCl [(ra_1, .inr (6, [.int (nI (nxF M (nxF M 0 + 1))), .ref ma])), (ra_3, .inr (5, [.int (nI (nxF M 0)), .long (M (nxF M 0 + 1) / gcdL (M (nxF M 0 + 1)) (M 0)), .long (M 0 / gcdL (M (nxF M 0 + 1)) (M 0))])), (ra_4, .inr (0, [.ref mr_4, .long ((numM 0) 0)])), (mr_4, .inl (dA 1, 32, .inr (.inl (fun j => (numM 0) (j + 1)))))] H := hP
      have hD : va_D A [(ra_1, .inr (6, [.int (nI (nxF M (nxF M 0 + 1))), .ref ma])), (ra_3, .inr (5, [.int (nI (nxF M 0)), .long (M (nxF M 0 + 1) / gcdL (M (nxF M 0 + 1)) (M 0)), .long (M 0 / gcdL (M (nxF M 0 + 1)) (M 0))])), (ra_4, .inr (0, [.ref mr_4, .long ((numM 0) 0)])), (mr_4, .inl (dA 1, 32, .inr (.inl (fun j => (numM 0) (j + 1)))))] := hD
      subst hb9
      subst hQe
      exact vx_out (fun x h => (hnoH x h).elim) hlocks h1 h2 h3 (fun t10 e10 _ => ⟨(), mp_n hmp hKz hK9 (mtS_none ((mt_0 sM hK9).symm.trans hp9) (Nat.zero_le _)), rfl, hS.F e10⟩) hS.2.2 (by first | decide | omega) (by first | decide | omega)
    obtain ⟨ra_5, rfl⟩ : ∃ z, z = ra9 := ⟨_, rfl⟩
    obtain ⟨mr_5, M_5⟩ := u9
    have e_5 := hq
    have sm_5 : MSm M_5 := fitS_sm (fr_u sM hK9) e_5
    clear hq
    have hP : va_P (dC, dI) vwCl [(ra_1, .inr (6, [.int (nI (nxF M (nxF M 0 + 1))), .ref ma])), (ra_3, .inr (5, [.int (nI (nxF M 0)), .long (M (nxF M 0 + 1) / gcdL (M (nxF M 0 + 1)) (M 0)), .long (M 0 / gcdL (M (nxF M 0 + 1)) (M 0))])), (ra_4, .inr (0, [.ref mr_4, .long ((numM 0) 0)])), (mr_4, .inl (dA 1, 32, .inr (.inl (fun j => (numM 0) (j + 1))))), (ra_5, .inr (0, [.ref mr_5, .long (M_5 0)])), (mr_5, .inl (dA 1, 32, .inr (.inl (fun j => M_5 (j + 1)))))] H := hP
    have hD : va_D A [(ra_1, .inr (6, [.int (nI (nxF M (nxF M 0 + 1))), .ref ma])), (ra_3, .inr (5, [.int (nI (nxF M 0)), .long (M (nxF M 0 + 1) / gcdL (M (nxF M 0 + 1)) (M 0)), .long (M 0 / gcdL (M (nxF M 0 + 1)) (M 0))])), (ra_4, .inr (0, [.ref mr_4, .long ((numM 0) 0)])), (mr_4, .inl (dA 1, 32, .inr (.inl (fun j => (numM 0) (j + 1))))), (ra_5, .inr (0, [.ref mr_5, .long (M_5 0)])), (mr_5, .inl (dA 1, 32, .inr (.inl (fun j => M_5 (j + 1)))))] := hD
    have hmt0 := (mt_0 (p := p0) (q := q0) (r := r0) (Ms := Ms) (f := fN) sM hK9).symm.trans e_5
    refine lv_astore (lv' := [(6, .ref ra_5), (5, .ref ra_3), (4, .ref ra_1), (3, .ref (σ 1)), (0, .ref (xa 0)), (1, .ref ma), (2, .int (nI fN))]) hx hb dX1_mapped_56 hl (by decide) rfl (fun ls hl => ?_)
    refine lv_iconst (v := nI 0) hx hb dX1_mapped_58 (by decide) ?_
    refine lv_istore (lv' := [(7, .int (nI 0)), (6, .ref ra_5), (5, .ref ra_3), (4, .ref ra_1), (3, .ref (σ 1)), (0, .ref (xa 0)), (1, .ref ma), (2, .int (nI fN))]) hx hb dX1_mapped_59 hl (by decide) rfl (fun ls hl => ?_)
    refine W.widen (k := 1 + 1 + 2 + 2 + 2 * 0) (n := 2 + 3 + 38 + 38 + 38 * 0) (by omega) (by omega) ?_
    have loop_6 : ∀ (n9_6 : Nat) (kc : Nat) (ta : Nat) (tr : Nat) (T : MV) (H : Heap) (locs : List Loc) (ls : Array Slot), 6 - kc < n9_6 → (kc ≤ p0 + q0 + r0) → (mtS p0 q0 r0 M (nxF M 0) Ms fN kc = some T) → (MSm T) → va_P (dC, dI) vwCl [(ra_1, .inr (6, [.int (nI (nxF M (nxF M 0 + 1))), .ref ma])), (ra_3, .inr (5, [.int (nI (nxF M 0)), .long (M (nxF M 0 + 1) / gcdL (M (nxF M 0 + 1)) (M 0)), .long (M 0 / gcdL (M (nxF M 0 + 1)) (M 0))])), (ta, .inr (0, [.ref tr, .long (T 0)])), (tr, .inl (dA 1, 32, .inr (.inl (fun j => T (j + 1)))))] H → va_D A [(ra_1, .inr (6, [.int (nI (nxF M (nxF M 0 + 1))), .ref ma])), (ra_3, .inr (5, [.int (nI (nxF M 0)), .long (M (nxF M 0 + 1) / gcdL (M (nxF M 0 + 1)) (M 0)), .long (M 0 / gcdL (M (nxF M 0 + 1)) (M 0))])), (ta, .inr (0, [.ref tr, .long (T 0)])), (tr, .inl (dA 1, 32, .inr (.inl (fun j => T (j + 1)))))] → va_S A s.heap H locs → lv_has ls 8 [(0, .ref (xa 0)), (1, .ref ma), (2, .int (nI fN)), (3, .ref (σ 1)), (4, .ref ra_1), (5, .ref ra_3), (6, .ref ta), (7, .int (nI kc))] → W p l e ({ frames := 9, cells := 545, slots := 9826, locals := 540 } : Room) s m args below meth c H locs (1 + 1 + 2 + 2 + 2 * kc) (2 + 3 + 38 + 38 + 38 * kc) Q (F0 m 61 ls []) := by
      intro n9_6
      induction n9_6 with
      | zero => intro kc ta tr T H locs ls hm_6; exact absurd hm_6 (Nat.not_lt_zero _)
      | succ n9_6 ih_6 =>
        intro kc ta tr T H locs ls hm_6 hk9 hmt sT hP hD hS hl
        refine lv_iload hx hb dX1_mapped_61 (lv_at hl 7 rfl) ?_
        refine lv_aload_n hx hb dX1_mapped_63 rfl (lv_at hl 0 rfl) ?_
        refine va_get (D := (dC, dI)) (ci := 3) (v := .ref (xa 3)) (C := RX1) (T := TX1) (N := 9) hx hb hts in_X1 hown hK (hR0.up hS) 0 rfl rfl 2 (by decide) (hts _ q286) (fun _ h9 => h9) rfl dX1_mapped_64 ?_
        refine va_getN (D := (dC, dI)) (ci := 4) (v := .ref ga) (C := RX4) (T := TX4) (N := 2) hx hb hts in_X4 hown hK (hR0.up hS) 1 rfl rfl 0 (by decide) (((va_Nw.warmF hG.1 (va_Nw.of rfl (Z.2.1 _ q240)))).use rfl) (fun _ h9 => h9) rfl dX1_mapped_67 ?_
        refine va_getN (D := (dC, dI)) (ci := 1) (v := .int (nI (p0 + q0 + r0))) (C := RX5) (T := TX5) (N := 6) hx hb hts in_X5 hown hK (hR3.up hS) 0 rfl rfl 3 (by decide) (((va_Nw.warmF hG.1 (va_Nw.of rfl (Z.2.1 _ q209)))).use rfl) (fun _ h9 => h9) rfl dX1_mapped_70 ?_
        refine lv_icmp_ge (tgt := 125) hx hb dX1_mapped_73 (by decide) (fun c_73 => ?_) (fun c_73 => ?_)
        · have c_73 : (p0 + q0 + r0) ≤ kc := (nI_leI (a := (p0 + q0 + r0)) (b := kc) (by omega) (by omega)).mp c_73
          obtain rfl : kc = p0 + q0 + r0 := by omega
          refine lv_aload_n hx hb dX1_mapped_125 rfl (lv_at hl 3 rfl) ?_
          refine lv_aload hx hb dX1_mapped_126 (lv_at hl 6 rfl) ?_
          refine lv_iconst (v := nI 1) hx hb dX1_mapped_128 (by decide) ?_
          have hF9 := va_free (wc := []) hD hS (fun q h => hA q h) [] rfl
          refine x_r (wc := []) (wr := [(ra_1, .inr (6, [.int (nI (nxF M (nxF M 0 + 1))), .ref ma])), (ra_3, .inr (5, [.int (nI (nxF M 0)), .long (M (nxF M 0 + 1) / gcdL (M (nxF M 0 + 1)) (M 0)), .long (M 0 / gcdL (M (nxF M 0 + 1)) (M 0))])), (ta, .inr (0, [.ref tr, .long (T 0)])), (tr, .inl (dA 1, 32, .inr (.inl (fun j => T (j + 1)))))]) (vx_runV (As := [.ref ta, .int (nI 1)]) (rest := []) ⟨hx, hb, hml, hown, hts⟩ (x6_plus Z (va_A [] H.size) H.size (fun q h => Or.inr h) Y (σ 1) (σ 2) (numM 0) ta tr T (nI 1) (Or.inl rfl) (numM_sm (by unfold sm8; decide)) sT) (cwV 2 hts (lw_V q1008 q641 q642 q102 q643) rfl rfl rfl (by decide +kernel) ⟨Nat.le_of_ble_eq_true rfl, Nat.le_of_ble_eq_true rfl⟩) (gP_V (va_recv hK (hR4.up hS) (ci := 0) (q0 := 0) rfl rfl) hG hS (fun q _ h => hF9 q h) ⟨rfl, (hR4.to hS (fun q _ h => hF9 q h)), (RO.beside (wr := [(ta, .inr (0, [.ref tr, .long (T 0)])), (tr, .inl (dA 1, 32, .inr (.inl (fun j => T (j + 1)))))]) hP hD [] [2, 3] rfl rfl (by decide))⟩) rfl rfl hl.1 rfl (lv_room (Nat.le_of_ble_eq_true rfl)) dX1_mapped_129 ⟨by first | decide | omega | (show _ ≤ (545 : Nat); omega), by first | decide | omega | (show _ ≤ (9826 : Nat); omega)⟩) hP hD hS hA [] [0, 1, 2, 3] rfl rfl (by decide) (by decide) (fun E ce q9 u9 t9 H locs ht9 hp9 hb9 hz hP hS h1 h2 h3 => ?_) (fun u9 ra9 H locs hq hX hz hk hP hD hS => ?_)
          · have hD := hD.sub (ws' := [(ra_1, .inr (6, [.int (nI (nxF M (nxF M 0 + 1))), .ref ma])), (ra_3, .inr (5, [.int (nI (nxF M 0)), .long (M (nxF M 0 + 1) / gcdL (M (nxF M 0 + 1)) (M 0)), .long (M 0 / gcdL (M (nxF M 0 + 1)) (M 0))])), (ta, .inr (0, [.ref tr, .long (T 0)])), (tr, .inl (dA 1, 32, .inr (.inl (fun j => T (j + 1)))))]) [0, 1, 2, 3] (by decide) rfl
            have hP : va_P (dC, dI) vwCl [(ra_1, .inr (6, [.int (nI (nxF M (nxF M 0 + 1))), .ref ma])), (ra_3, .inr (5, [.int (nI (nxF M 0)), .long (M (nxF M 0 + 1) / gcdL (M (nxF M 0 + 1)) (M 0)), .long (M 0 / gcdL (M (nxF M 0 + 1)) (M 0))])), (ta, .inr (0, [.ref tr, .long (T 0)])), (tr, .inl (dA 1, 32, .inr (.inl (fun j => T (j + 1)))))] H := hP
            have hD : va_D A [(ra_1, .inr (6, [.int (nI (nxF M (nxF M 0 + 1))), .ref ma])), (ra_3, .inr (5, [.int (nI (nxF M 0)), .long (M (nxF M 0 + 1) / gcdL (M (nxF M 0 + 1)) (M 0)), .long (M 0 / gcdL (M (nxF M 0 + 1)) (M 0))])), (ta, .inr (0, [.ref tr, .long (T 0)])), (tr, .inl (dA 1, 32, .inr (.inl (fun j => T (j + 1)))))] := hD
            subst hb9
            subst hQe
            exact vx_out (fun x h => (hnoH x h).elim) hlocks h1 h2 h3 (fun t10 e10 _ => ⟨(), mp_a hmp hKz hK9 hmt hp9, rfl, hS.F e10⟩) hS.2.2 (by first | decide | omega) (by first | decide | omega)
          obtain ⟨ra_7, rfl⟩ : ∃ z, z = ra9 := ⟨_, rfl⟩
          obtain ⟨mr_7, M_7⟩ := u9
          have e_7 := hq
          have sm_7 : MSm M_7 := addS_sm (numM_sm (by unfold sm8; decide)) sT e_7
          clear hq
          have hP : va_P (dC, dI) vwCl [(ra_1, .inr (6, [.int (nI (nxF M (nxF M 0 + 1))), .ref ma])), (ra_3, .inr (5, [.int (nI (nxF M 0)), .long (M (nxF M 0 + 1) / gcdL (M (nxF M 0 + 1)) (M 0)), .long (M 0 / gcdL (M (nxF M 0 + 1)) (M 0))])), (ta, .inr (0, [.ref tr, .long (T 0)])), (tr, .inl (dA 1, 32, .inr (.inl (fun j => T (j + 1))))), (ra_7, .inr (0, [.ref mr_7, .long (M_7 0)])), (mr_7, .inl (dA 1, 32, .inr (.inl (fun j => M_7 (j + 1)))))] H := hP
          have hD : va_D A [(ra_1, .inr (6, [.int (nI (nxF M (nxF M 0 + 1))), .ref ma])), (ra_3, .inr (5, [.int (nI (nxF M 0)), .long (M (nxF M 0 + 1) / gcdL (M (nxF M 0 + 1)) (M 0)), .long (M 0 / gcdL (M (nxF M 0 + 1)) (M 0))])), (ta, .inr (0, [.ref tr, .long (T 0)])), (tr, .inl (dA 1, 32, .inr (.inl (fun j => T (j + 1))))), (ra_7, .inr (0, [.ref mr_7, .long (M_7 0)])), (mr_7, .inl (dA 1, 32, .inr (.inl (fun j => M_7 (j + 1)))))] := hD
          have hmp1 := mp_s hmp hKz hmt e_7
          refine lv_astore_n (lv' := [(3, .ref ra_7), (0, .ref (xa 0)), (1, .ref ma), (2, .int (nI fN)), (4, .ref ra_1), (5, .ref ra_3), (6, .ref ta), (7, .int (nI (p0 + q0 + r0)))]) hx hb dX1_mapped_132 rfl hl (by decide) rfl (fun ls hl => ?_)
          refine lv_goto (tgt := 10) hx hb dX1_mapped_133 (by decide) ?_
          refine W.widen (k := 1 + 17 * (nxF M (nxF M 0 + 1))) (n := 2 + 307 * (nxF M (nxF M 0 + 1))) (by omega) (by omega) ?_
          have loop_8 : ∀ (n9_8 : Nat) (kb : Nat) (sa : Nat) (su : Nat) (S : MV) (H : Heap) (locs : List Loc) (ls : Array Slot), 33 - kb < n9_8 → (kb ≤ 32) → (kb < 32 → ¬ M (kb + 1) = 0) → (mpS p0 q0 r0 M Ms fN kb = some S) → (MSm S) → va_P (dC, dI) vwCl [(ra_1, .inr (6, [.int (nI kb), .ref ma])), (sa, .inr (0, [.ref su, .long (S 0)])), (su, .inl (dA 1, 32, .inr (.inl (fun j => S (j + 1)))))] H → va_D A [(ra_1, .inr (6, [.int (nI kb), .ref ma])), (sa, .inr (0, [.ref su, .long (S 0)])), (su, .inl (dA 1, 32, .inr (.inl (fun j => S (j + 1)))))] → va_S A s.heap H locs → lv_has ls 8 [(0, .ref (xa 0)), (1, .ref ma), (2, .int (nI fN)), (3, .ref sa), (4, .ref ra_1)] → W p l e ({ frames := 9, cells := 545, slots := 9826, locals := 540 } : Room) s m args below meth c H locs (1 + 17 * kb) (2 + 307 * kb) Q (F0 m 10 ls []) := by
            intro n9_8
            induction n9_8 with
            | zero => intro kb sa su S H locs ls hm_8; exact absurd hm_8 (Nat.not_lt_zero _)
            | succ n9_8 ih_8 =>
              intro kb sa su S H locs ls hm_8 hkb9 hkbz hmp sS hP hD hS hl
              refine lv_aload hx hb dX1_mapped_10 (lv_at hl 4 rfl) ?_
              have hF9 := va_free (wc := [(ra_1, .inr (6, [.int (nI kb), .ref ma]))]) hD hS (fun q h => hA q h) [0] rfl
              refine c5_i (wr := [(sa, .inr (0, [.ref su, .long (S 0)])), (su, .inl (dA 1, 32, .inr (.inl (fun j => S (j + 1)))))]) (va_runF (As := []) (rest := []) (hK.1 6 _ rfl).2 ⟨hx, hb, hml, hown, hts⟩ (x10_hasNext Z (va_A [(ra_1, .inr (6, [.int (nI kb), .ref ma]))] H.size) H.size (fun q h => Or.inr h) ra_1 ma kb (by omega)) (va_cwF 0 hts (lw_F q946 q950 q952 q120 q954) rfl rfl rfl (fwZ Z hG (by decide +kernel) q948 q947 q953 q951 q949) (by decide +kernel) ⟨Nat.le_of_ble_eq_true rfl, Nat.le_of_ble_eq_true rfl⟩) (gP_V (va_recv hK hP (ci := 6) (q0 := 0) rfl rfl) hG hS (fun q _ h => hF9 q h) ⟨rfl, (hP.sub (ws' := [(ra_1, .inr (6, [.int (nI kb), .ref ma]))]) [0] rfl), (hD.sub (ws' := [(ra_1, .inr (6, [.int (nI kb), .ref ma]))]) [0] (by decide) rfl).self⟩) rfl rfl hl.1 rfl (lv_room (Nat.le_of_ble_eq_true rfl)) dX1_mapped_12 ⟨by first | decide | omega | (show _ ≤ (545 : Nat); omega), by first | decide | omega | (show _ ≤ (9826 : Nat); omega)⟩) hP hD hS hA [0] [1, 2] rfl rfl (by decide) (by decide) (fun r9 u9 H locs hq hX hz hk hP hD hS => ?_)
              have hr9 := hq
              clear hq
              obtain ⟨r_9, rfl⟩ : ∃ z, z = r9 := ⟨_, rfl⟩
              subst hr9
              have hP : va_P (dC, dI) vwCl [(sa, .inr (0, [.ref su, .long (S 0)])), (su, .inl (dA 1, 32, .inr (.inl (fun j => S (j + 1))))), (ra_1, .inr (6, [.int (nI kb), .ref ma]))] H := hP
              have hD : va_D A [(sa, .inr (0, [.ref su, .long (S 0)])), (su, .inl (dA 1, 32, .inr (.inl (fun j => S (j + 1))))), (ra_1, .inr (6, [.int (nI kb), .ref ma]))] := hD
              refine lv_if_eq (tgt := 136) hx hb dX1_mapped_17 (by decide) (fun c_17 => ?_) (fun c_17 => ?_)
              · have hKe := of_decide_eq_false (bI_0 c_17)
                obtain rfl : kb = 32 := by omega
                refine lv_aload_n hx hb dX1_mapped_136 rfl (lv_at hl 3 rfl) ?_
                subst hQe
                refine vx_ret ?_
                refine W.widen (k := 545) (n := 9826) (by first | decide | omega) (by first | decide | omega) ?_
                exact W.aret (v := .ref sa) hx hb hr (Or.inl ⟨_, rfl⟩) (Or.inr ⟨_, rfl⟩) (fun tz ht hW => ⟨⟨(su, S), sa, rfl, hmp, B1r_at ht (hP.sub [0, 1] rfl) (hD.sub [0, 1] (by decide) rfl) trivial⟩, hS.F ht⟩) hS.2.2 dX1_mapped_137
              · have hK9 : kb < 32 := of_decide_eq_true (bI_1 c_17)
                have hKz := hkbz hK9
                have hKn := mp_lt pM hK9 hKz
                have hKl := nx_le (M := M) (i := kb + 1) (by omega)
                refine lv_aload hx hb dX1_mapped_20 (lv_at hl 4 rfl) ?_
                have hF9 := va_free (wc := [(ra_1, .inr (6, [.int (nI kb), .ref ma]))]) hD hS (fun q h => hA q h) [2] rfl
                refine c5_r (wr := [(sa, .inr (0, [.ref su, .long (S 0)])), (su, .inl (dA 1, 32, .inr (.inl (fun j => S (j + 1)))))]) (va_runF (As := []) (rest := []) (hK.1 6 _ rfl).2 ⟨hx, hb, hml, hown, hts⟩ (x10_next Z (va_A [(ra_1, .inr (6, [.int (nI kb), .ref ma]))] H.size) H.size (fun q h => Or.inr h) ra_1 ma mr M kb (by omega) sM) (va_cwF 0 hts (lw_F q962 q965 q967 q120 q969) rfl rfl rfl (fwZ Z hG (by decide +kernel) q964 q963 q968 q966 q949) (by decide +kernel) ⟨Nat.le_of_ble_eq_true rfl, Nat.le_of_ble_eq_true rfl⟩) (gP_V (va_recv hK hP (ci := 6) (q0 := 2) rfl rfl) hG hS (fun q _ h => hF9 q h) ⟨rfl, (hP.sub (ws' := [(ra_1, .inr (6, [.int (nI kb), .ref ma]))]) [2] rfl), (hD.sub (ws' := [(ra_1, .inr (6, [.int (nI kb), .ref ma]))]) [2] (by decide) rfl).self, (hR1.to hS (fun q _ h => hF9 q h))⟩) rfl rfl hl.1 rfl (lv_room (Nat.le_of_ble_eq_true rfl)) dX1_mapped_22 ⟨by first | decide | omega | (show _ ≤ (545 : Nat); omega), by first | decide | omega | (show _ ≤ (9826 : Nat); omega)⟩) hP hD hS hA [2] [0, 1] rfl rfl (by decide) (by decide) (fun u9 ra9 H locs hq hX hz hk hP hD hS => ?_)
                obtain ⟨ra_10, rfl⟩ : ∃ z, z = ra9 := ⟨_, rfl⟩
                have hP : va_P (dC, dI) vwCl [(sa, .inr (0, [.ref su, .long (S 0)])), (su, .inl (dA 1, 32, .inr (.inl (fun j => S (j + 1))))), (ra_1, .inr (6, [.int (nI (nxF M (kb + 1))), .ref ma])), (ra_10, .inr (5, [.int (nI kb), .long (M (kb + 1) / gcdL (M (kb + 1)) (M 0)), .long (M 0 / gcdL (M (kb + 1)) (M 0))]))] H := hP
                have hD : va_D A [(sa, .inr (0, [.ref su, .long (S 0)])), (su, .inl (dA 1, 32, .inr (.inl (fun j => S (j + 1))))), (ra_1, .inr (6, [.int (nI (nxF M (kb + 1))), .ref ma])), (ra_10, .inr (5, [.int (nI kb), .long (M (kb + 1) / gcdL (M (kb + 1)) (M 0)), .long (M 0 / gcdL (M (kb + 1)) (M 0))]))] := hD
                refine va_castS hx hb hown (hts _ q579) (hK.1 5 _ rfl).2 (va_recv hK hP (ci := 5) (q0 := 3) rfl rfl) dX1_mapped_27 ?_
                refine lv_astore (lv' := [(5, .ref ra_10), (0, .ref (xa 0)), (1, .ref ma), (2, .int (nI fN)), (3, .ref sa), (4, .ref ra_1)]) hx hb dX1_mapped_30 hl (by decide) rfl (fun ls hl => ?_)
                refine lv_aload hx hb dX1_mapped_32 (lv_at hl 0 rfl) ?_
                refine va_getN (D := (dC, dI)) (ci := 5) (v := .int (nI kb)) (C := RX9) (T := TX9) (N := 3) hx hb hts in_X9 hown hK hP 3 rfl rfl 0 (by decide) (((va_Nw.warmF hG.1 (va_Nw.of rfl (Z.2.1 _ q587)))).use rfl) (fun _ h9 => h9) rfl dX1_mapped_34 ?_
                refine lv_lconst (v := 0) hx hb dX1_mapped_37 rfl ?_
                refine lv_lconst (v := 1) hx hb dX1_mapped_38 rfl ?_
                have hF9 := va_free (wc := []) hD hS (fun q h => hA q h) [] rfl
                refine x_r (wc := []) (wr := [(sa, .inr (0, [.ref su, .long (S 0)])), (su, .inl (dA 1, 32, .inr (.inl (fun j => S (j + 1))))), (ra_1, .inr (6, [.int (nI (nxF M (kb + 1))), .ref ma])), (ra_10, .inr (5, [.int (nI kb), .long (M (kb + 1) / gcdL (M (kb + 1)) (M 0)), .long (M 0 / gcdL (M (kb + 1)) (M 0))]))]) (vx_runS (As := [.int (nI kb), .long 0, .long 1]) (rest := []) ⟨hx, hb, hml, hown, hts⟩ (x6_of Z (va_A [] H.size) H.size (fun q h => Or.inr h) Y kb 0 1 (by omega) (by decide) (by decide) (by decide)) (va_cwS 3 hts (lw_S q858 q819 q102 q820) rfl rfl rfl (by decide +kernel) ⟨Nat.le_of_ble_eq_true rfl, Nat.le_of_ble_eq_true rfl⟩) (gP_S hG hS (fun q _ h => hF9 q h) rfl) rfl rfl hl.1 rfl (lv_room (Nat.le_of_ble_eq_true rfl)) dX1_mapped_39 ⟨by first | decide | omega | (show _ ≤ (545 : Nat); omega), by first | decide | omega | (show _ ≤ (9826 : Nat); omega)⟩) hP hD hS hA [] [0, 1, 2, 3] rfl rfl (by decide) (by decide) (fun E ce q9 u9 t9 H locs ht9 hp9 hb9 hz hP hS h1 h2 h3 => ?_) (fun u9 ra9 H locs hq hX hz hk hP hD hS => ?_)
                · have hD := hD.sub (ws' := [(sa, .inr (0, [.ref su, .long (S 0)])), (su, .inl (dA 1, 32, .inr (.inl (fun j => S (j + 1))))), (ra_1, .inr (6, [.int (nI (nxF M (kb + 1))), .ref ma])), (ra_10, .inr (5, [.int (nI kb), .long (M (kb + 1) / gcdL (M (kb + 1)) (M 0)), .long (M 0 / gcdL (M (kb + 1)) (M 0))]))]) [0, 1, 2, 3] (by decide) rfl
                  have hP : va_P (dC, dI) vwCl [(sa, .inr (0, [.ref su, .long (S 0)])), (su, .inl (dA 1, 32, .inr (.inl (fun j => S (j + 1))))), (ra_1, .inr (6, [.int (nI (nxF M (kb + 1))), .ref ma])), (ra_10, .inr (5, [.int (nI kb), .long (M (kb + 1) / gcdL (M (kb + 1)) (M 0)), .long (M 0 / gcdL (M (kb + 1)) (M 0))]))] H := hP
                  have hD : va_D A [(sa, .inr (0, [.ref su, .long (S 0)])), (su, .inl (dA 1, 32, .inr (.inl (fun j => S (j + 1))))), (ra_1, .inr (6, [.int (nI (nxF M (kb + 1))), .ref ma])), (ra_10, .inr (5, [.int (nI kb), .long (M (kb + 1) / gcdL (M (kb + 1)) (M 0)), .long (M 0 / gcdL (M (kb + 1)) (M 0))]))] := hD
                  subst hb9
                  rw [of_0 hK9] at hp9; cases hp9
                obtain ⟨ra_11, rfl⟩ : ∃ z, z = ra9 := ⟨_, rfl⟩
                obtain ⟨mr_11, M_11⟩ := u9
                have e_11 := hq
                have sm_11 : MSm M_11 := fitG_sm (by decide) (by decide) e_11
                clear hq
                have hP : va_P (dC, dI) vwCl [(sa, .inr (0, [.ref su, .long (S 0)])), (su, .inl (dA 1, 32, .inr (.inl (fun j => S (j + 1))))), (ra_1, .inr (6, [.int (nI (nxF M (kb + 1))), .ref ma])), (ra_10, .inr (5, [.int (nI kb), .long (M (kb + 1) / gcdL (M (kb + 1)) (M 0)), .long (M 0 / gcdL (M (kb + 1)) (M 0))])), (ra_11, .inr (0, [.ref mr_11, .long (M_11 0)])), (mr_11, .inl (dA 1, 32, .inr (.inl (fun j => M_11 (j + 1)))))] H := hP
                have hD : va_D A [(sa, .inr (0, [.ref su, .long (S 0)])), (su, .inl (dA 1, 32, .inr (.inl (fun j => S (j + 1))))), (ra_1, .inr (6, [.int (nI (nxF M (kb + 1))), .ref ma])), (ra_10, .inr (5, [.int (nI kb), .long (M (kb + 1) / gcdL (M (kb + 1)) (M 0)), .long (M 0 / gcdL (M (kb + 1)) (M 0))])), (ra_11, .inr (0, [.ref mr_11, .long (M_11 0)])), (mr_11, .inl (dA 1, 32, .inr (.inl (fun j => M_11 (j + 1)))))] := hD
                obtain rfl : M_11 = numM 0 := Option.some.inj (e_11.symm.trans (of_0 hK9))
                refine lv_iconst (v := nI 0) hx hb dX1_mapped_42 (by decide) ?_
                refine lv_aload hx hb dX1_mapped_43 (lv_at hl 0 rfl) ?_
                refine va_getN (D := (dC, dI)) (ci := 5) (v := .long (M (kb + 1) / gcdL (M (kb + 1)) (M 0))) (C := RX9) (T := TX9) (N := 3) hx hb hts in_X9 hown hK hP 3 rfl rfl 1 (by decide) (((va_Nw.warmF hG.1 (va_Nw.of rfl (Z.2.1 _ q589)))).use rfl) (fun _ h9 => h9) rfl dX1_mapped_45 ?_
                refine lv_aload hx hb dX1_mapped_48 (lv_at hl 0 rfl) ?_
                refine va_getN (D := (dC, dI)) (ci := 5) (v := .long (M 0 / gcdL (M (kb + 1)) (M 0))) (C := RX9) (T := TX9) (N := 3) hx hb hts in_X9 hown hK hP 3 rfl rfl 2 (by decide) (((va_Nw.warmF hG.1 (va_Nw.of rfl (Z.2.1 _ q591)))).use rfl) (fun _ h9 => h9) rfl dX1_mapped_50 ?_
                have hF9 := va_free (wc := []) hD hS (fun q h => hA q h) [] rfl
                refine x_r (wc := []) (wr := [(sa, .inr (0, [.ref su, .long (S 0)])), (su, .inl (dA 1, 32, .inr (.inl (fun j => S (j + 1))))), (ra_1, .inr (6, [.int (nI (nxF M (kb + 1))), .ref ma])), (ra_10, .inr (5, [.int (nI kb), .long (M (kb + 1) / gcdL (M (kb + 1)) (M 0)), .long (M 0 / gcdL (M (kb + 1)) (M 0))])), (ra_11, .inr (0, [.ref mr_11, .long ((numM 0) 0)])), (mr_11, .inl (dA 1, 32, .inr (.inl (fun j => (numM 0) (j + 1)))))]) (vx_runV (As := [.int (nI 0), .long (M (kb + 1) / gcdL (M (kb + 1)) (M 0)), .long (M 0 / gcdL (M (kb + 1)) (M 0))]) (rest := []) ⟨hx, hb, hml, hown, hts⟩ (x6_with Z (va_A [] H.size) H.size (fun q h => Or.inr h) Y ra_11 mr_11 (numM 0) 0 (M (kb + 1) / gcdL (M (kb + 1)) (M 0)) (M 0 / gcdL (M (kb + 1)) (M 0)) (by omega) (fr_x sM hK9) (fr_y sM hK9) (fr_u sM hK9) sm_11) (cwV 3 hts (lw_V q501 q502 q503 q102 q504) rfl rfl rfl (by decide +kernel) ⟨Nat.le_of_ble_eq_true rfl, Nat.le_of_ble_eq_true rfl⟩) (gP_V (va_recv hK hP (ci := 0) (q0 := 4) rfl rfl) hG hS (fun q _ h => hF9 q h) ⟨rfl, (RO.beside (wr := [(ra_11, .inr (0, [.ref mr_11, .long ((numM 0) 0)])), (mr_11, .inl (dA 1, 32, .inr (.inl (fun j => (numM 0) (j + 1)))))]) hP hD [] [4, 5] rfl rfl (by decide))⟩) rfl rfl hl.1 rfl (lv_room (Nat.le_of_ble_eq_true rfl)) dX1_mapped_53 ⟨by first | decide | omega | (show _ ≤ (545 : Nat); omega), by first | decide | omega | (show _ ≤ (9826 : Nat); omega)⟩) hP hD hS hA [] [0, 1, 2, 3, 4, 5] rfl rfl (by decide) (by decide) (fun E ce q9 u9 t9 H locs ht9 hp9 hb9 hz hP hS h1 h2 h3 => ?_) (fun u9 ra9 H locs hq hX hz hk hP hD hS => ?_)
                · have hD := hD.sub (ws' := [(sa, .inr (0, [.ref su, .long (S 0)])), (su, .inl (dA 1, 32, .inr (.inl (fun j => S (j + 1))))), (ra_1, .inr (6, [.int (nI (nxF M (kb + 1))), .ref ma])), (ra_10, .inr (5, [.int (nI kb), .long (M (kb + 1) / gcdL (M (kb + 1)) (M 0)), .long (M 0 / gcdL (M (kb + 1)) (M 0))])), (ra_11, .inr (0, [.ref mr_11, .long ((numM 0) 0)])), (mr_11, .inl (dA 1, 32, .inr (.inl (fun j => (numM 0) (j + 1)))))]) [0, 1, 2, 3, 4, 5] (by decide) rfl
                  have hP : va_P (dC, dI) vwCl [(sa, .inr (0, [.ref su, .long (S 0)])), (su, .inl (dA 1, 32, .inr (.inl (fun j => S (j + 1))))), (ra_1, .inr (6, [.int (nI (nxF M (kb + 1))), .ref ma])), (ra_10, .inr (5, [.int (nI kb), .long (M (kb + 1) / gcdL (M (kb + 1)) (M 0)), .long (M 0 / gcdL (M (kb + 1)) (M 0))])), (ra_11, .inr (0, [.ref mr_11, .long ((numM 0) 0)])), (mr_11, .inl (dA 1, 32, .inr (.inl (fun j => (numM 0) (j + 1)))))] H := hP
                  have hD : va_D A [(sa, .inr (0, [.ref su, .long (S 0)])), (su, .inl (dA 1, 32, .inr (.inl (fun j => S (j + 1))))), (ra_1, .inr (6, [.int (nI (nxF M (kb + 1))), .ref ma])), (ra_10, .inr (5, [.int (nI kb), .long (M (kb + 1) / gcdL (M (kb + 1)) (M 0)), .long (M 0 / gcdL (M (kb + 1)) (M 0))])), (ra_11, .inr (0, [.ref mr_11, .long ((numM 0) 0)])), (mr_11, .inl (dA 1, 32, .inr (.inl (fun j => (numM 0) (j + 1)))))] := hD
                  subst hb9
                  subst hQe
                  exact vx_out (fun x h => (hnoH x h).elim) hlocks h1 h2 h3 (fun t10 e10 _ => ⟨(), mp_n hmp hKz hK9 (mtS_none ((mt_0 sM hK9).symm.trans hp9) (Nat.zero_le _)), rfl, hS.F e10⟩) hS.2.2 (by first | decide | omega) (by first | decide | omega)
                obtain ⟨ra_12, rfl⟩ : ∃ z, z = ra9 := ⟨_, rfl⟩
                obtain ⟨mr_12, M_12⟩ := u9
                have e_12 := hq
                have sm_12 : MSm M_12 := fitS_sm (fr_u sM hK9) e_12
                clear hq
                have hP : va_P (dC, dI) vwCl [(sa, .inr (0, [.ref su, .long (S 0)])), (su, .inl (dA 1, 32, .inr (.inl (fun j => S (j + 1))))), (ra_1, .inr (6, [.int (nI (nxF M (kb + 1))), .ref ma])), (ra_10, .inr (5, [.int (nI kb), .long (M (kb + 1) / gcdL (M (kb + 1)) (M 0)), .long (M 0 / gcdL (M (kb + 1)) (M 0))])), (ra_11, .inr (0, [.ref mr_11, .long ((numM 0) 0)])), (mr_11, .inl (dA 1, 32, .inr (.inl (fun j => (numM 0) (j + 1))))), (ra_12, .inr (0, [.ref mr_12, .long (M_12 0)])), (mr_12, .inl (dA 1, 32, .inr (.inl (fun j => M_12 (j + 1)))))] H := hP
                have hD : va_D A [(sa, .inr (0, [.ref su, .long (S 0)])), (su, .inl (dA 1, 32, .inr (.inl (fun j => S (j + 1))))), (ra_1, .inr (6, [.int (nI (nxF M (kb + 1))), .ref ma])), (ra_10, .inr (5, [.int (nI kb), .long (M (kb + 1) / gcdL (M (kb + 1)) (M 0)), .long (M 0 / gcdL (M (kb + 1)) (M 0))])), (ra_11, .inr (0, [.ref mr_11, .long ((numM 0) 0)])), (mr_11, .inl (dA 1, 32, .inr (.inl (fun j => (numM 0) (j + 1))))), (ra_12, .inr (0, [.ref mr_12, .long (M_12 0)])), (mr_12, .inl (dA 1, 32, .inr (.inl (fun j => M_12 (j + 1)))))] := hD
                have hmt0 := (mt_0 (p := p0) (q := q0) (r := r0) (Ms := Ms) (f := fN) sM hK9).symm.trans e_12
                refine lv_astore (lv' := [(6, .ref ra_12), (5, .ref ra_10), (0, .ref (xa 0)), (1, .ref ma), (2, .int (nI fN)), (3, .ref sa), (4, .ref ra_1)]) hx hb dX1_mapped_56 hl (by decide) rfl (fun ls hl => ?_)
                refine lv_iconst (v := nI 0) hx hb dX1_mapped_58 (by decide) ?_
                refine lv_istore (lv' := [(7, .int (nI 0)), (6, .ref ra_12), (5, .ref ra_10), (0, .ref (xa 0)), (1, .ref ma), (2, .int (nI fN)), (3, .ref sa), (4, .ref ra_1)]) hx hb dX1_mapped_59 hl (by decide) rfl (fun ls hl => ?_)
                refine W.widen (k := 1 + 17 * kb + 1 + 2 + 2 + 2 * 0) (n := 2 + 307 * kb + 3 + 38 + 38 + 38 * 0) (by omega) (by omega) ?_
                have loop_13 : ∀ (n9_13 : Nat) (kc : Nat) (ta : Nat) (tr : Nat) (T : MV) (H : Heap) (locs : List Loc) (ls : Array Slot), 6 - kc < n9_13 → (kc ≤ p0 + q0 + r0) → (mtS p0 q0 r0 M kb Ms fN kc = some T) → (MSm T) → va_P (dC, dI) vwCl [(ra_1, .inr (6, [.int (nI (nxF M (kb + 1))), .ref ma])), (ra_10, .inr (5, [.int (nI kb), .long (M (kb + 1) / gcdL (M (kb + 1)) (M 0)), .long (M 0 / gcdL (M (kb + 1)) (M 0))])), (sa, .inr (0, [.ref su, .long (S 0)])), (su, .inl (dA 1, 32, .inr (.inl (fun j => S (j + 1))))), (ta, .inr (0, [.ref tr, .long (T 0)])), (tr, .inl (dA 1, 32, .inr (.inl (fun j => T (j + 1)))))] H → va_D A [(ra_1, .inr (6, [.int (nI (nxF M (kb + 1))), .ref ma])), (ra_10, .inr (5, [.int (nI kb), .long (M (kb + 1) / gcdL (M (kb + 1)) (M 0)), .long (M 0 / gcdL (M (kb + 1)) (M 0))])), (sa, .inr (0, [.ref su, .long (S 0)])), (su, .inl (dA 1, 32, .inr (.inl (fun j => S (j + 1))))), (ta, .inr (0, [.ref tr, .long (T 0)])), (tr, .inl (dA 1, 32, .inr (.inl (fun j => T (j + 1)))))] → va_S A s.heap H locs → lv_has ls 8 [(0, .ref (xa 0)), (1, .ref ma), (2, .int (nI fN)), (3, .ref sa), (4, .ref ra_1), (5, .ref ra_10), (6, .ref ta), (7, .int (nI kc))] → W p l e ({ frames := 9, cells := 545, slots := 9826, locals := 540 } : Room) s m args below meth c H locs (1 + 17 * kb + 1 + 2 + 2 + 2 * kc) (2 + 307 * kb + 3 + 38 + 38 + 38 * kc) Q (F0 m 61 ls []) := by
                  intro n9_13
                  induction n9_13 with
                  | zero => intro kc ta tr T H locs ls hm_13; exact absurd hm_13 (Nat.not_lt_zero _)
                  | succ n9_13 ih_13 =>
                    intro kc ta tr T H locs ls hm_13 hk9 hmt sT hP hD hS hl
                    refine lv_iload hx hb dX1_mapped_61 (lv_at hl 7 rfl) ?_
                    refine lv_aload_n hx hb dX1_mapped_63 rfl (lv_at hl 0 rfl) ?_
                    refine va_get (D := (dC, dI)) (ci := 3) (v := .ref (xa 3)) (C := RX1) (T := TX1) (N := 9) hx hb hts in_X1 hown hK (hR0.up hS) 0 rfl rfl 2 (by decide) (hts _ q286) (fun _ h9 => h9) rfl dX1_mapped_64 ?_
                    refine va_getN (D := (dC, dI)) (ci := 4) (v := .ref ga) (C := RX4) (T := TX4) (N := 2) hx hb hts in_X4 hown hK (hR0.up hS) 1 rfl rfl 0 (by decide) (((va_Nw.warmF hG.1 (va_Nw.of rfl (Z.2.1 _ q240)))).use rfl) (fun _ h9 => h9) rfl dX1_mapped_67 ?_
                    refine va_getN (D := (dC, dI)) (ci := 1) (v := .int (nI (p0 + q0 + r0))) (C := RX5) (T := TX5) (N := 6) hx hb hts in_X5 hown hK (hR3.up hS) 0 rfl rfl 3 (by decide) (((va_Nw.warmF hG.1 (va_Nw.of rfl (Z.2.1 _ q209)))).use rfl) (fun _ h9 => h9) rfl dX1_mapped_70 ?_
                    refine lv_icmp_ge (tgt := 125) hx hb dX1_mapped_73 (by decide) (fun c_73 => ?_) (fun c_73 => ?_)
                    · have c_73 : (p0 + q0 + r0) ≤ kc := (nI_leI (a := (p0 + q0 + r0)) (b := kc) (by omega) (by omega)).mp c_73
                      obtain rfl : kc = p0 + q0 + r0 := by omega
                      refine lv_aload_n hx hb dX1_mapped_125 rfl (lv_at hl 3 rfl) ?_
                      refine lv_aload hx hb dX1_mapped_126 (lv_at hl 6 rfl) ?_
                      refine lv_iconst (v := nI 1) hx hb dX1_mapped_128 (by decide) ?_
                      have hF9 := va_free (wc := []) hD hS (fun q h => hA q h) [] rfl
                      refine x_r (wc := []) (wr := [(ra_1, .inr (6, [.int (nI (nxF M (kb + 1))), .ref ma])), (ra_10, .inr (5, [.int (nI kb), .long (M (kb + 1) / gcdL (M (kb + 1)) (M 0)), .long (M 0 / gcdL (M (kb + 1)) (M 0))])), (sa, .inr (0, [.ref su, .long (S 0)])), (su, .inl (dA 1, 32, .inr (.inl (fun j => S (j + 1))))), (ta, .inr (0, [.ref tr, .long (T 0)])), (tr, .inl (dA 1, 32, .inr (.inl (fun j => T (j + 1)))))]) (vx_runV (As := [.ref ta, .int (nI 1)]) (rest := []) ⟨hx, hb, hml, hown, hts⟩ (x6_plus Z (va_A [] H.size) H.size (fun q h => Or.inr h) Y sa su S ta tr T (nI 1) (Or.inl rfl) sS sT) (cwV 2 hts (lw_V q1008 q641 q642 q102 q643) rfl rfl rfl (by decide +kernel) ⟨Nat.le_of_ble_eq_true rfl, Nat.le_of_ble_eq_true rfl⟩) (gP_V (va_recv hK hP (ci := 0) (q0 := 2) rfl rfl) hG hS (fun q _ h => hF9 q h) ⟨rfl, (RO.beside (wr := [(sa, .inr (0, [.ref su, .long (S 0)])), (su, .inl (dA 1, 32, .inr (.inl (fun j => S (j + 1)))))]) hP hD [] [2, 3] rfl rfl (by decide)), (RO.beside (wr := [(ta, .inr (0, [.ref tr, .long (T 0)])), (tr, .inl (dA 1, 32, .inr (.inl (fun j => T (j + 1)))))]) hP hD [] [4, 5] rfl rfl (by decide))⟩) rfl rfl hl.1 rfl (lv_room (Nat.le_of_ble_eq_true rfl)) dX1_mapped_129 ⟨by first | decide | omega | (show _ ≤ (545 : Nat); omega), by first | decide | omega | (show _ ≤ (9826 : Nat); omega)⟩) hP hD hS hA [] [0, 1, 2, 3, 4, 5] rfl rfl (by decide) (by decide) (fun E ce q9 u9 t9 H locs ht9 hp9 hb9 hz hP hS h1 h2 h3 => ?_) (fun u9 ra9 H locs hq hX hz hk hP hD hS => ?_)
                      · have hD := hD.sub (ws' := [(ra_1, .inr (6, [.int (nI (nxF M (kb + 1))), .ref ma])), (ra_10, .inr (5, [.int (nI kb), .long (M (kb + 1) / gcdL (M (kb + 1)) (M 0)), .long (M 0 / gcdL (M (kb + 1)) (M 0))])), (sa, .inr (0, [.ref su, .long (S 0)])), (su, .inl (dA 1, 32, .inr (.inl (fun j => S (j + 1))))), (ta, .inr (0, [.ref tr, .long (T 0)])), (tr, .inl (dA 1, 32, .inr (.inl (fun j => T (j + 1)))))]) [0, 1, 2, 3, 4, 5] (by decide) rfl
                        have hP : va_P (dC, dI) vwCl [(ra_1, .inr (6, [.int (nI (nxF M (kb + 1))), .ref ma])), (ra_10, .inr (5, [.int (nI kb), .long (M (kb + 1) / gcdL (M (kb + 1)) (M 0)), .long (M 0 / gcdL (M (kb + 1)) (M 0))])), (sa, .inr (0, [.ref su, .long (S 0)])), (su, .inl (dA 1, 32, .inr (.inl (fun j => S (j + 1))))), (ta, .inr (0, [.ref tr, .long (T 0)])), (tr, .inl (dA 1, 32, .inr (.inl (fun j => T (j + 1)))))] H := hP
                        have hD : va_D A [(ra_1, .inr (6, [.int (nI (nxF M (kb + 1))), .ref ma])), (ra_10, .inr (5, [.int (nI kb), .long (M (kb + 1) / gcdL (M (kb + 1)) (M 0)), .long (M 0 / gcdL (M (kb + 1)) (M 0))])), (sa, .inr (0, [.ref su, .long (S 0)])), (su, .inl (dA 1, 32, .inr (.inl (fun j => S (j + 1))))), (ta, .inr (0, [.ref tr, .long (T 0)])), (tr, .inl (dA 1, 32, .inr (.inl (fun j => T (j + 1)))))] := hD
                        subst hb9
                        subst hQe
                        exact vx_out (fun x h => (hnoH x h).elim) hlocks h1 h2 h3 (fun t10 e10 _ => ⟨(), mp_a hmp hKz hK9 hmt hp9, rfl, hS.F e10⟩) hS.2.2 (by first | decide | omega) (by first | decide | omega)
                      obtain ⟨ra_14, rfl⟩ : ∃ z, z = ra9 := ⟨_, rfl⟩
                      obtain ⟨mr_14, M_14⟩ := u9
                      have e_14 := hq
                      have sm_14 : MSm M_14 := addS_sm sS sT e_14
                      clear hq
                      have hP : va_P (dC, dI) vwCl [(ra_1, .inr (6, [.int (nI (nxF M (kb + 1))), .ref ma])), (ra_10, .inr (5, [.int (nI kb), .long (M (kb + 1) / gcdL (M (kb + 1)) (M 0)), .long (M 0 / gcdL (M (kb + 1)) (M 0))])), (sa, .inr (0, [.ref su, .long (S 0)])), (su, .inl (dA 1, 32, .inr (.inl (fun j => S (j + 1))))), (ta, .inr (0, [.ref tr, .long (T 0)])), (tr, .inl (dA 1, 32, .inr (.inl (fun j => T (j + 1))))), (ra_14, .inr (0, [.ref mr_14, .long (M_14 0)])), (mr_14, .inl (dA 1, 32, .inr (.inl (fun j => M_14 (j + 1)))))] H := hP
                      have hD : va_D A [(ra_1, .inr (6, [.int (nI (nxF M (kb + 1))), .ref ma])), (ra_10, .inr (5, [.int (nI kb), .long (M (kb + 1) / gcdL (M (kb + 1)) (M 0)), .long (M 0 / gcdL (M (kb + 1)) (M 0))])), (sa, .inr (0, [.ref su, .long (S 0)])), (su, .inl (dA 1, 32, .inr (.inl (fun j => S (j + 1))))), (ta, .inr (0, [.ref tr, .long (T 0)])), (tr, .inl (dA 1, 32, .inr (.inl (fun j => T (j + 1))))), (ra_14, .inr (0, [.ref mr_14, .long (M_14 0)])), (mr_14, .inl (dA 1, 32, .inr (.inl (fun j => M_14 (j + 1)))))] := hD
                      have hmp1 := mp_s hmp hKz hmt e_14
                      refine lv_astore_n (lv' := [(3, .ref ra_14), (0, .ref (xa 0)), (1, .ref ma), (2, .int (nI fN)), (4, .ref ra_1), (5, .ref ra_10), (6, .ref ta), (7, .int (nI (p0 + q0 + r0)))]) hx hb dX1_mapped_132 rfl hl (by decide) rfl (fun ls hl => ?_)
                      refine lv_goto (tgt := 10) hx hb dX1_mapped_133 (by decide) ?_
                      refine W.widen (k := 1 + 17 * nxF M (kb + 1)) (n := 2 + 307 * nxF M (kb + 1)) (by omega) (by omega) ?_
                      exact ih_8 (nxF M (kb + 1)) ra_14 mr_14 M_14 H locs ls (by omega) hKl.2 (fun h => nx_nz (by omega) h) (mp_k hKl.1 hmp1 (fun j a b => nx_z j a b)) sm_14 (hP.sub [0, 6, 7] rfl) (hD.sub [0, 6, 7] (by decide) rfl) hS (lv_sub hl [1, 2, 3, 0, 4] rfl)
                    · have c_73 : ¬ (p0 + q0 + r0) ≤ kc := fun h => c_73 ((nI_leI (a := (p0 + q0 + r0)) (b := kc) (by omega) (by omega)).mpr h)
                      have hk5 : kc < 5 := by omega
                      have hkn : kc < p0 + q0 + r0 := by omega
                      refine lv_aload hx hb dX1_mapped_76 (lv_at hl 5 rfl) ?_
                      refine va_getN (D := (dC, dI)) (ci := 5) (v := .int (nI kb)) (C := RX9) (T := TX9) (N := 3) hx hb hts in_X9 hown hK hP 1 rfl rfl 0 (by decide) (((va_Nw.warmF hG.1 (va_Nw.of rfl (Z.2.1 _ q587)))).use rfl) (fun _ h9 => h9) rfl dX1_mapped_78 ?_
                      refine lv_iload hx hb dX1_mapped_81 (lv_at hl 7 rfl) ?_
                      refine lv_ishr hx hb dX1_mapped_83 ?_
                      refine e_i (y := nI (kb / 2 ^ kc)) (n_shr (by omega) (by omega)) ?_
                      refine lv_iconst (v := nI 1) hx hb dX1_mapped_84 (by decide) ?_
                      refine lv_iand hx hb dX1_mapped_85 ?_
                      refine e_i (y := nI ((kb / 2 ^ kc) &&& 1)) (n_and _ _) ?_
                      refine lv_iconst (v := nI 1) hx hb dX1_mapped_86 (by decide) ?_
                      refine lv_icmp_ne (tgt := 119) hx hb dX1_mapped_87 (by decide) (fun c_87 => ?_) (fun c_87 => ?_)
                      · have c_87 : ¬ ((kb / 2 ^ kc) &&& 1) = 1 := fun h => c_87 ((nI_eq (a := ((kb / 2 ^ kc) &&& 1)) (b := 1) (Nat.lt_of_le_of_lt Nat.and_le_right (by decide)) (by omega)).mpr h)
                        have hmt1 := mt_n hmt c_87
                        refine lv_iinc (v := nI (kc + 1)) (lv' := [(7, .int (nI (kc + 1))), (0, .ref (xa 0)), (1, .ref ma), (2, .int (nI fN)), (3, .ref sa), (4, .ref ra_1), (5, .ref ra_10), (6, .ref ta)]) hx hb dX1_mapped_119 hl (k := 7) rfl (by exact nI_add _ 1) (by decide) rfl (fun ls hl => ?_)
                        refine lv_goto (tgt := 61) hx hb dX1_mapped_122 (by decide) ?_
                        refine W.widen (k := 1 + 17 * kb + 1 + 2 + 2 + 2 * (kc + 1)) (n := 2 + 307 * kb + 3 + 38 + 38 + 38 * (kc + 1)) (by omega) (by omega) ?_
                        exact ih_13 (kc + 1) ta tr T H locs ls (by omega) (by omega) hmt1 sT (hP.sub [0, 1, 2, 3, 4, 5] rfl) (hD.sub [0, 1, 2, 3, 4, 5] (by decide) rfl) hS (lv_sub hl [1, 2, 3, 4, 5, 6, 7, 0] rfl)
                      · have c_87 : ((kb / 2 ^ kc) &&& 1) = 1 := (nI_eq (a := ((kb / 2 ^ kc) &&& 1)) (b := 1) (Nat.lt_of_le_of_lt Nat.and_le_right (by decide)) (by omega)).mp c_87
                        have hbt := c_87
                        refine lv_aload_n hx hb dX1_mapped_90 rfl (lv_at hl 0 rfl) ?_
                        refine va_get (D := (dC, dI)) (ci := 3) (v := .ref (xa 3)) (C := RX1) (T := TX1) (N := 9) hx hb hts in_X1 hown hK (hR0.up hS) 0 rfl rfl 2 (by decide) (hts _ q286) (fun _ h9 => h9) rfl dX1_mapped_91 ?_
                        refine va_getN (D := (dC, dI)) (ci := 4) (v := .ref ga) (C := RX4) (T := TX4) (N := 2) hx hb hts in_X4 hown hK (hR0.up hS) 1 rfl rfl 0 (by decide) (((va_Nw.warmF hG.1 (va_Nw.of rfl (Z.2.1 _ q240)))).use rfl) (fun _ h9 => h9) rfl dX1_mapped_94 ?_
                        refine lv_aload hx hb dX1_mapped_97 (lv_at hl 6 rfl) ?_
                        refine lv_aload_n hx hb dX1_mapped_99 rfl (lv_at hl 0 rfl) ?_
                        refine va_get (D := (dC, dI)) (ci := 3) (v := .ref (xa 3)) (C := RX1) (T := TX1) (N := 9) hx hb hts in_X1 hown hK (hR0.up hS) 0 rfl rfl 2 (by decide) (hts _ q286) (fun _ h9 => h9) rfl dX1_mapped_100 ?_
                        refine va_getN (D := (dC, dI)) (ci := 4) (v := .ref (xa 7)) (C := RX4) (T := TX4) (N := 2) hx hb hts in_X4 hown hK (hR0.up hS) 1 rfl rfl 1 (by decide) (((va_Nw.warmF hG.1 (va_Nw.of rfl (Z.2.1 _ q243)))).use rfl) (fun _ h9 => h9) rfl dX1_mapped_103 ?_
                        refine lv_iload_n hx hb dX1_mapped_106 rfl (lv_at hl 2 rfl) ?_
                        refine lv_iload hx hb dX1_mapped_107 (lv_at hl 7 rfl) ?_
                        refine lv_iadd hx hb dX1_mapped_109 ?_
                        refine e_i (y := nI (fN + kc)) (nI_add _ _) ?_
                        refine a_aldq hx hb hK (hR2.up hS) 0 4 rfl rfl (by omega) (by decide) dX1_mapped_110 ?_
                        refine e_v (y := .ref (rm (fN + kc))) (rfl) ?_
                        have hR5 := hRG (fN + kc) (by omega)
                        refine va_gets (v := .ref (σ (10 + 1))) hx hb (hG.Z Z (SS.pr Y 1 (by decide)).1) hS hown (hts _ q1007) (fun _ h9 => h9) dX1_mapped_111 ?_
                        have hF9 := va_free (wc := []) hD hS (fun q h => hA q h) [] rfl
                        refine x_r (wc := []) (wr := [(ra_1, .inr (6, [.int (nI (nxF M (kb + 1))), .ref ma])), (ra_10, .inr (5, [.int (nI kb), .long (M (kb + 1) / gcdL (M (kb + 1)) (M 0)), .long (M 0 / gcdL (M (kb + 1)) (M 0))])), (sa, .inr (0, [.ref su, .long (S 0)])), (su, .inl (dA 1, 32, .inr (.inl (fun j => S (j + 1))))), (ta, .inr (0, [.ref tr, .long (T 0)])), (tr, .inl (dA 1, 32, .inr (.inl (fun j => T (j + 1)))))]) (vx_runV (As := [.ref ta, .ref (rm (fN + kc)), .ref (σ (10 + 1))]) (rest := []) ⟨hx, hb, hml, hown, hts⟩ (x5_product Z (va_A [] H.size) H.size (fun q h => Or.inr h) Y ga sg sr p0 q0 r0 ta tr T (rm (fN + kc)) (rr (fN + kc)) (Ms (fN + kc)) 1 (by omega) sT (sR (fN + kc) (by omega))) (cwV 3 hts (lw_V q870 q658 q659 q101 q660) rfl rfl rfl (by decide +kernel) ⟨Nat.le_of_ble_eq_true rfl, Nat.le_of_ble_eq_true rfl⟩) (gP_V (va_recv hK (hR3.up hS) (ci := 1) (q0 := 0) rfl rfl) hG hS (fun q _ h => hF9 q h) ⟨rfl, (RO.beside (wr := [(ta, .inr (0, [.ref tr, .long (T 0)])), (tr, .inl (dA 1, 32, .inr (.inl (fun j => T (j + 1)))))]) hP hD [] [4, 5] rfl rfl (by decide)), (hR5.to hS (fun q _ h => hF9 q h)), (hAG.to hS (fun q _ h => hF9 q h))⟩) rfl rfl hl.1 rfl (lv_room (Nat.le_of_ble_eq_true rfl)) dX1_mapped_114 ⟨by first | decide | omega | (show _ ≤ (545 : Nat); omega), by first | decide | omega | (show _ ≤ (9826 : Nat); omega)⟩) hP hD hS hA [] [0, 1, 2, 3, 4, 5] rfl rfl (by decide) (by decide) (fun E ce q9 u9 t9 H locs ht9 hp9 hb9 hz hP hS h1 h2 h3 => ?_) (fun u9 ra9 H locs hq hX hz hk hP hD hS => ?_)
                        · have hD := hD.sub (ws' := [(ra_1, .inr (6, [.int (nI (nxF M (kb + 1))), .ref ma])), (ra_10, .inr (5, [.int (nI kb), .long (M (kb + 1) / gcdL (M (kb + 1)) (M 0)), .long (M 0 / gcdL (M (kb + 1)) (M 0))])), (sa, .inr (0, [.ref su, .long (S 0)])), (su, .inl (dA 1, 32, .inr (.inl (fun j => S (j + 1))))), (ta, .inr (0, [.ref tr, .long (T 0)])), (tr, .inl (dA 1, 32, .inr (.inl (fun j => T (j + 1)))))]) [0, 1, 2, 3, 4, 5] (by decide) rfl
                          have hP : va_P (dC, dI) vwCl [(ra_1, .inr (6, [.int (nI (nxF M (kb + 1))), .ref ma])), (ra_10, .inr (5, [.int (nI kb), .long (M (kb + 1) / gcdL (M (kb + 1)) (M 0)), .long (M 0 / gcdL (M (kb + 1)) (M 0))])), (sa, .inr (0, [.ref su, .long (S 0)])), (su, .inl (dA 1, 32, .inr (.inl (fun j => S (j + 1))))), (ta, .inr (0, [.ref tr, .long (T 0)])), (tr, .inl (dA 1, 32, .inr (.inl (fun j => T (j + 1)))))] H := hP
                          have hD : va_D A [(ra_1, .inr (6, [.int (nI (nxF M (kb + 1))), .ref ma])), (ra_10, .inr (5, [.int (nI kb), .long (M (kb + 1) / gcdL (M (kb + 1)) (M 0)), .long (M 0 / gcdL (M (kb + 1)) (M 0))])), (sa, .inr (0, [.ref su, .long (S 0)])), (su, .inl (dA 1, 32, .inr (.inl (fun j => S (j + 1))))), (ta, .inr (0, [.ref tr, .long (T 0)])), (tr, .inl (dA 1, 32, .inr (.inl (fun j => T (j + 1)))))] := hD
                          subst hb9
                          subst hQe
                          exact vx_out (fun x h => (hnoH x h).elim) hlocks h1 h2 h3 (fun t10 e10 _ => ⟨(), mp_n hmp hKz hK9 (mtS_none (mt_x hmt hbt hp9) (show kc + 1 ≤ p0 + q0 + r0 by omega)), rfl, hS.F e10⟩) hS.2.2 (by first | decide | omega) (by first | decide | omega)
                        obtain ⟨ra_15, rfl⟩ : ∃ z, z = ra9 := ⟨_, rfl⟩
                        obtain ⟨mr_15, M_15⟩ := u9
                        have e_15 := hq
                        have sm_15 : MSm M_15 := mulS_sm sT (sR (fN + kc) (by omega)) e_15
                        clear hq
                        have hP : va_P (dC, dI) vwCl [(ra_1, .inr (6, [.int (nI (nxF M (kb + 1))), .ref ma])), (ra_10, .inr (5, [.int (nI kb), .long (M (kb + 1) / gcdL (M (kb + 1)) (M 0)), .long (M 0 / gcdL (M (kb + 1)) (M 0))])), (sa, .inr (0, [.ref su, .long (S 0)])), (su, .inl (dA 1, 32, .inr (.inl (fun j => S (j + 1))))), (ta, .inr (0, [.ref tr, .long (T 0)])), (tr, .inl (dA 1, 32, .inr (.inl (fun j => T (j + 1))))), (ra_15, .inr (0, [.ref mr_15, .long (M_15 0)])), (mr_15, .inl (dA 1, 32, .inr (.inl (fun j => M_15 (j + 1)))))] H := hP
                        have hD : va_D A [(ra_1, .inr (6, [.int (nI (nxF M (kb + 1))), .ref ma])), (ra_10, .inr (5, [.int (nI kb), .long (M (kb + 1) / gcdL (M (kb + 1)) (M 0)), .long (M 0 / gcdL (M (kb + 1)) (M 0))])), (sa, .inr (0, [.ref su, .long (S 0)])), (su, .inl (dA 1, 32, .inr (.inl (fun j => S (j + 1))))), (ta, .inr (0, [.ref tr, .long (T 0)])), (tr, .inl (dA 1, 32, .inr (.inl (fun j => T (j + 1))))), (ra_15, .inr (0, [.ref mr_15, .long (M_15 0)])), (mr_15, .inl (dA 1, 32, .inr (.inl (fun j => M_15 (j + 1)))))] := hD
                        have hmt1 := mt_y hmt hbt e_15
                        refine lv_astore (lv' := [(6, .ref ra_15), (0, .ref (xa 0)), (1, .ref ma), (2, .int (nI fN)), (3, .ref sa), (4, .ref ra_1), (5, .ref ra_10), (7, .int (nI kc))]) hx hb dX1_mapped_117 hl (by decide) rfl (fun ls hl => ?_)
                        refine lv_iinc (v := nI (kc + 1)) (lv' := [(7, .int (nI (kc + 1))), (6, .ref ra_15), (0, .ref (xa 0)), (1, .ref ma), (2, .int (nI fN)), (3, .ref sa), (4, .ref ra_1), (5, .ref ra_10)]) hx hb dX1_mapped_119 hl (k := 7) rfl (by exact nI_add _ 1) (by decide) rfl (fun ls hl => ?_)
                        refine lv_goto (tgt := 61) hx hb dX1_mapped_122 (by decide) ?_
                        refine W.widen (k := 1 + 17 * kb + 1 + 2 + 2 + 2 * (kc + 1)) (n := 2 + 307 * kb + 3 + 38 + 38 + 38 * (kc + 1)) (by omega) (by omega) ?_
                        exact ih_13 (kc + 1) ra_15 mr_15 M_15 H locs ls (by omega) (by omega) hmt1 sm_15 (hP.sub [0, 1, 2, 3, 6, 7] rfl) (hD.sub [0, 1, 2, 3, 6, 7] (by decide) rfl) hS (lv_sub hl [2, 3, 4, 5, 6, 7, 1, 0] rfl)
                exact loop_13 _ 0 ra_12 mr_12 M_12 H locs ls (Nat.lt_succ_self _) (by omega) hmt0 sm_12 (hP.sub [2, 3, 0, 1, 6, 7] rfl) (hD.sub [2, 3, 0, 1, 6, 7] (by decide) rfl) hS (lv_sub hl [3, 4, 5, 6, 7, 2, 1, 0] rfl)
          exact loop_8 _ (nxF M (nxF M 0 + 1)) ra_7 mr_7 M_7 H locs ls (Nat.lt_succ_self _) hKl.2 (fun h => nx_nz (by omega) h) (mp_k hKl.1 hmp1 (fun j a b => nx_z j a b)) sm_7 (hP.sub [0, 4, 5] rfl) (hD.sub [0, 4, 5] (by decide) rfl) hS (lv_sub hl [1, 2, 3, 0, 4] rfl)
        · have c_73 : ¬ (p0 + q0 + r0) ≤ kc := fun h => c_73 ((nI_leI (a := (p0 + q0 + r0)) (b := kc) (by omega) (by omega)).mpr h)
          have hk5 : kc < 5 := by omega
          have hkn : kc < p0 + q0 + r0 := by omega
          refine lv_aload hx hb dX1_mapped_76 (lv_at hl 5 rfl) ?_
          refine va_getN (D := (dC, dI)) (ci := 5) (v := .int (nI (nxF M 0))) (C := RX9) (T := TX9) (N := 3) hx hb hts in_X9 hown hK hP 1 rfl rfl 0 (by decide) (((va_Nw.warmF hG.1 (va_Nw.of rfl (Z.2.1 _ q587)))).use rfl) (fun _ h9 => h9) rfl dX1_mapped_78 ?_
          refine lv_iload hx hb dX1_mapped_81 (lv_at hl 7 rfl) ?_
          refine lv_ishr hx hb dX1_mapped_83 ?_
          refine e_i (y := nI ((nxF M 0) / 2 ^ kc)) (n_shr (by omega) (by omega)) ?_
          refine lv_iconst (v := nI 1) hx hb dX1_mapped_84 (by decide) ?_
          refine lv_iand hx hb dX1_mapped_85 ?_
          refine e_i (y := nI (((nxF M 0) / 2 ^ kc) &&& 1)) (n_and _ _) ?_
          refine lv_iconst (v := nI 1) hx hb dX1_mapped_86 (by decide) ?_
          refine lv_icmp_ne (tgt := 119) hx hb dX1_mapped_87 (by decide) (fun c_87 => ?_) (fun c_87 => ?_)
          · have c_87 : ¬ (((nxF M 0) / 2 ^ kc) &&& 1) = 1 := fun h => c_87 ((nI_eq (a := (((nxF M 0) / 2 ^ kc) &&& 1)) (b := 1) (Nat.lt_of_le_of_lt Nat.and_le_right (by decide)) (by omega)).mpr h)
            have hmt1 := mt_n hmt c_87
            refine lv_iinc (v := nI (kc + 1)) (lv' := [(7, .int (nI (kc + 1))), (0, .ref (xa 0)), (1, .ref ma), (2, .int (nI fN)), (3, .ref (σ 1)), (4, .ref ra_1), (5, .ref ra_3), (6, .ref ta)]) hx hb dX1_mapped_119 hl (k := 7) rfl (by exact nI_add _ 1) (by decide) rfl (fun ls hl => ?_)
            refine lv_goto (tgt := 61) hx hb dX1_mapped_122 (by decide) ?_
            refine W.widen (k := 1 + 1 + 2 + 2 + 2 * (kc + 1)) (n := 2 + 3 + 38 + 38 + 38 * (kc + 1)) (by omega) (by omega) ?_
            exact ih_6 (kc + 1) ta tr T H locs ls (by omega) (by omega) hmt1 sT (hP.sub [0, 1, 2, 3] rfl) (hD.sub [0, 1, 2, 3] (by decide) rfl) hS (lv_sub hl [1, 2, 3, 4, 5, 6, 7, 0] rfl)
          · have c_87 : (((nxF M 0) / 2 ^ kc) &&& 1) = 1 := (nI_eq (a := (((nxF M 0) / 2 ^ kc) &&& 1)) (b := 1) (Nat.lt_of_le_of_lt Nat.and_le_right (by decide)) (by omega)).mp c_87
            have hbt := c_87
            refine lv_aload_n hx hb dX1_mapped_90 rfl (lv_at hl 0 rfl) ?_
            refine va_get (D := (dC, dI)) (ci := 3) (v := .ref (xa 3)) (C := RX1) (T := TX1) (N := 9) hx hb hts in_X1 hown hK (hR0.up hS) 0 rfl rfl 2 (by decide) (hts _ q286) (fun _ h9 => h9) rfl dX1_mapped_91 ?_
            refine va_getN (D := (dC, dI)) (ci := 4) (v := .ref ga) (C := RX4) (T := TX4) (N := 2) hx hb hts in_X4 hown hK (hR0.up hS) 1 rfl rfl 0 (by decide) (((va_Nw.warmF hG.1 (va_Nw.of rfl (Z.2.1 _ q240)))).use rfl) (fun _ h9 => h9) rfl dX1_mapped_94 ?_
            refine lv_aload hx hb dX1_mapped_97 (lv_at hl 6 rfl) ?_
            refine lv_aload_n hx hb dX1_mapped_99 rfl (lv_at hl 0 rfl) ?_
            refine va_get (D := (dC, dI)) (ci := 3) (v := .ref (xa 3)) (C := RX1) (T := TX1) (N := 9) hx hb hts in_X1 hown hK (hR0.up hS) 0 rfl rfl 2 (by decide) (hts _ q286) (fun _ h9 => h9) rfl dX1_mapped_100 ?_
            refine va_getN (D := (dC, dI)) (ci := 4) (v := .ref (xa 7)) (C := RX4) (T := TX4) (N := 2) hx hb hts in_X4 hown hK (hR0.up hS) 1 rfl rfl 1 (by decide) (((va_Nw.warmF hG.1 (va_Nw.of rfl (Z.2.1 _ q243)))).use rfl) (fun _ h9 => h9) rfl dX1_mapped_103 ?_
            refine lv_iload_n hx hb dX1_mapped_106 rfl (lv_at hl 2 rfl) ?_
            refine lv_iload hx hb dX1_mapped_107 (lv_at hl 7 rfl) ?_
            refine lv_iadd hx hb dX1_mapped_109 ?_
            refine e_i (y := nI (fN + kc)) (nI_add _ _) ?_
            refine a_aldq hx hb hK (hR2.up hS) 0 4 rfl rfl (by omega) (by decide) dX1_mapped_110 ?_
            refine e_v (y := .ref (rm (fN + kc))) (rfl) ?_
            have hR5 := hRG (fN + kc) (by omega)
            refine va_gets (v := .ref (σ (10 + 1))) hx hb (hG.Z Z (SS.pr Y 1 (by decide)).1) hS hown (hts _ q1007) (fun _ h9 => h9) dX1_mapped_111 ?_
            have hF9 := va_free (wc := []) hD hS (fun q h => hA q h) [] rfl
            refine x_r (wc := []) (wr := [(ra_1, .inr (6, [.int (nI (nxF M (nxF M 0 + 1))), .ref ma])), (ra_3, .inr (5, [.int (nI (nxF M 0)), .long (M (nxF M 0 + 1) / gcdL (M (nxF M 0 + 1)) (M 0)), .long (M 0 / gcdL (M (nxF M 0 + 1)) (M 0))])), (ta, .inr (0, [.ref tr, .long (T 0)])), (tr, .inl (dA 1, 32, .inr (.inl (fun j => T (j + 1)))))]) (vx_runV (As := [.ref ta, .ref (rm (fN + kc)), .ref (σ (10 + 1))]) (rest := []) ⟨hx, hb, hml, hown, hts⟩ (x5_product Z (va_A [] H.size) H.size (fun q h => Or.inr h) Y ga sg sr p0 q0 r0 ta tr T (rm (fN + kc)) (rr (fN + kc)) (Ms (fN + kc)) 1 (by omega) sT (sR (fN + kc) (by omega))) (cwV 3 hts (lw_V q870 q658 q659 q101 q660) rfl rfl rfl (by decide +kernel) ⟨Nat.le_of_ble_eq_true rfl, Nat.le_of_ble_eq_true rfl⟩) (gP_V (va_recv hK (hR3.up hS) (ci := 1) (q0 := 0) rfl rfl) hG hS (fun q _ h => hF9 q h) ⟨rfl, (RO.beside (wr := [(ta, .inr (0, [.ref tr, .long (T 0)])), (tr, .inl (dA 1, 32, .inr (.inl (fun j => T (j + 1)))))]) hP hD [] [2, 3] rfl rfl (by decide)), (hR5.to hS (fun q _ h => hF9 q h)), (hAG.to hS (fun q _ h => hF9 q h))⟩) rfl rfl hl.1 rfl (lv_room (Nat.le_of_ble_eq_true rfl)) dX1_mapped_114 ⟨by first | decide | omega | (show _ ≤ (545 : Nat); omega), by first | decide | omega | (show _ ≤ (9826 : Nat); omega)⟩) hP hD hS hA [] [0, 1, 2, 3] rfl rfl (by decide) (by decide) (fun E ce q9 u9 t9 H locs ht9 hp9 hb9 hz hP hS h1 h2 h3 => ?_) (fun u9 ra9 H locs hq hX hz hk hP hD hS => ?_)
            · have hD := hD.sub (ws' := [(ra_1, .inr (6, [.int (nI (nxF M (nxF M 0 + 1))), .ref ma])), (ra_3, .inr (5, [.int (nI (nxF M 0)), .long (M (nxF M 0 + 1) / gcdL (M (nxF M 0 + 1)) (M 0)), .long (M 0 / gcdL (M (nxF M 0 + 1)) (M 0))])), (ta, .inr (0, [.ref tr, .long (T 0)])), (tr, .inl (dA 1, 32, .inr (.inl (fun j => T (j + 1)))))]) [0, 1, 2, 3] (by decide) rfl
              have hP : va_P (dC, dI) vwCl [(ra_1, .inr (6, [.int (nI (nxF M (nxF M 0 + 1))), .ref ma])), (ra_3, .inr (5, [.int (nI (nxF M 0)), .long (M (nxF M 0 + 1) / gcdL (M (nxF M 0 + 1)) (M 0)), .long (M 0 / gcdL (M (nxF M 0 + 1)) (M 0))])), (ta, .inr (0, [.ref tr, .long (T 0)])), (tr, .inl (dA 1, 32, .inr (.inl (fun j => T (j + 1)))))] H := hP
              have hD : va_D A [(ra_1, .inr (6, [.int (nI (nxF M (nxF M 0 + 1))), .ref ma])), (ra_3, .inr (5, [.int (nI (nxF M 0)), .long (M (nxF M 0 + 1) / gcdL (M (nxF M 0 + 1)) (M 0)), .long (M 0 / gcdL (M (nxF M 0 + 1)) (M 0))])), (ta, .inr (0, [.ref tr, .long (T 0)])), (tr, .inl (dA 1, 32, .inr (.inl (fun j => T (j + 1)))))] := hD
              subst hb9
              subst hQe
              exact vx_out (fun x h => (hnoH x h).elim) hlocks h1 h2 h3 (fun t10 e10 _ => ⟨(), mp_n hmp hKz hK9 (mtS_none (mt_x hmt hbt hp9) (show kc + 1 ≤ p0 + q0 + r0 by omega)), rfl, hS.F e10⟩) hS.2.2 (by first | decide | omega) (by first | decide | omega)
            obtain ⟨ra_16, rfl⟩ : ∃ z, z = ra9 := ⟨_, rfl⟩
            obtain ⟨mr_16, M_16⟩ := u9
            have e_16 := hq
            have sm_16 : MSm M_16 := mulS_sm sT (sR (fN + kc) (by omega)) e_16
            clear hq
            have hP : va_P (dC, dI) vwCl [(ra_1, .inr (6, [.int (nI (nxF M (nxF M 0 + 1))), .ref ma])), (ra_3, .inr (5, [.int (nI (nxF M 0)), .long (M (nxF M 0 + 1) / gcdL (M (nxF M 0 + 1)) (M 0)), .long (M 0 / gcdL (M (nxF M 0 + 1)) (M 0))])), (ta, .inr (0, [.ref tr, .long (T 0)])), (tr, .inl (dA 1, 32, .inr (.inl (fun j => T (j + 1))))), (ra_16, .inr (0, [.ref mr_16, .long (M_16 0)])), (mr_16, .inl (dA 1, 32, .inr (.inl (fun j => M_16 (j + 1)))))] H := hP
            have hD : va_D A [(ra_1, .inr (6, [.int (nI (nxF M (nxF M 0 + 1))), .ref ma])), (ra_3, .inr (5, [.int (nI (nxF M 0)), .long (M (nxF M 0 + 1) / gcdL (M (nxF M 0 + 1)) (M 0)), .long (M 0 / gcdL (M (nxF M 0 + 1)) (M 0))])), (ta, .inr (0, [.ref tr, .long (T 0)])), (tr, .inl (dA 1, 32, .inr (.inl (fun j => T (j + 1))))), (ra_16, .inr (0, [.ref mr_16, .long (M_16 0)])), (mr_16, .inl (dA 1, 32, .inr (.inl (fun j => M_16 (j + 1)))))] := hD
            have hmt1 := mt_y hmt hbt e_16
            refine lv_astore (lv' := [(6, .ref ra_16), (0, .ref (xa 0)), (1, .ref ma), (2, .int (nI fN)), (3, .ref (σ 1)), (4, .ref ra_1), (5, .ref ra_3), (7, .int (nI kc))]) hx hb dX1_mapped_117 hl (by decide) rfl (fun ls hl => ?_)
            refine lv_iinc (v := nI (kc + 1)) (lv' := [(7, .int (nI (kc + 1))), (6, .ref ra_16), (0, .ref (xa 0)), (1, .ref ma), (2, .int (nI fN)), (3, .ref (σ 1)), (4, .ref ra_1), (5, .ref ra_3)]) hx hb dX1_mapped_119 hl (k := 7) rfl (by exact nI_add _ 1) (by decide) rfl (fun ls hl => ?_)
            refine lv_goto (tgt := 61) hx hb dX1_mapped_122 (by decide) ?_
            refine W.widen (k := 1 + 1 + 2 + 2 + 2 * (kc + 1)) (n := 2 + 3 + 38 + 38 + 38 * (kc + 1)) (by omega) (by omega) ?_
            exact ih_6 (kc + 1) ra_16 mr_16 M_16 H locs ls (by omega) (by omega) hmt1 sm_16 (hP.sub [0, 1, 4, 5] rfl) (hD.sub [0, 1, 4, 5] (by decide) rfl) hS (lv_sub hl [2, 3, 4, 5, 6, 7, 1, 0] rfl)
    exact loop_6 _ 0 ra_5 mr_5 M_5 H locs ls (Nat.lt_succ_self _) (by omega) hmt0 sm_5 (hP.sub [0, 1, 4, 5] rfl) (hD.sub [0, 1, 4, 5] (by decide) rfl) hS (lv_sub hl [5, 6, 7, 4, 3, 2, 1, 0] rfl)
