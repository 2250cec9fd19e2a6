/-! worlds made -/
theorem cellR_ext (cA : ClassId) {n : Nat} {f g : Nat → Option Nat} (h : ∀ j, j < n → f j = g j) : vp_cell cA (n, .inr (.inr (.inr (.inr f)))) = vp_cell cA (n, .inr (.inr (.inr (.inr g)))) := by
  show arrV cA n (fun j => va_rf (f j)) = arrV cA n (fun j => va_rf (g j))
  unfold arrV
  congr 1
  apply Array.ext
  · simp
  · intro i h1 h2
    simp at h1 ⊢
    rw [h i h1]
theorem P_R {D : va_G} {ws : va_W} {H : Heap} (hP : va_P D vwCl ws H) (q0 : Nat) {a : Nat} {cA : ClassId} {n : Nat} {f : Nat → Option Nat} (g : Nat → Option Nat) (h : ws[q0]? = some (a, .inl (cA, n, .inr (.inr (.inr (.inr f)))))) (he : ∀ j, j < n → f j = g j) : va_P D vwCl (ws.set q0 (a, .inl (cA, n, .inr (.inr (.inr (.inr g)))))) H :=
  P_to hP q0 h (fun z => by rw [show va_at D vwCl (a, .inl (cA, n, .inr (.inr (.inr (.inr g))))) H = (H[a]? = some (vp_cell cA (n, .inr (.inr (.inr (.inr g)))))) from rfl, ← cellR_ext cA he]; exact z)
def rgZ (f : Nat → Option Nat) (z k : Nat) : Nat → Option Nat := fun j => if j < k then some z else f j
theorem rgZ_0 {f : Nat → Option Nat} {z : Nat} : rgZ f z 0 = f := by funext j; unfold rgZ; rw [if_neg (Nat.not_lt_zero j)]
theorem rgZ_s {f : Nat → Option Nat} {z k : Nat} : va_up (rgZ f z k) k (some z) = rgZ f z (k + 1) := by
  funext j
  unfold va_up rgZ
  by_cases e : j = k
  · rw [if_pos e, if_pos (by omega)]
  · rw [if_neg e]
    by_cases c : j < k
    · rw [if_pos c, if_pos (by omega)]
    · rw [if_neg c, if_neg (by omega)]
theorem rgZ_8 {f : Nat → Option Nat} {z j : Nat} (h : j < 8) : rgZ f z 8 j = some z := if_pos h
theorem cpy_8 {f g : Nat → Option Nat} {j : Nat} (h : j < 8) : va_cpy f g (nI 0).toNatClampNeg (nI 0).toNatClampNeg (nI 8).toNatClampNeg j = f j := by
  rw [nI_clamp (by decide), nI_clamp (by decide), pk_cpy_in (by omega) (by omega)]
  congr 1
  omega
theorem nm_obj {C : String} {s : State} {cA : ClassId} (h : va_RA s cA (.object C)) : s.vm.findClass ("[" ++ (FieldType.object C).toString) = some cA := by
  obtain ⟨_, _, _, _, _, h⟩ := h
  exact h
theorem fit_ref {cA : ClassId} {n : Nat} {f : Nat → Option Nat} {C : String} : ∀ (i : Nat) (v : Value), (vp_cell cA (n, .inr (.inr (.inr (.inr f))))).slots[i]? = some v → fits (.object C) v = true := by
  intro i v h
  have h2 : (arrV cA n (fun j => va_rf (f j))).slots[i]? = some v := h
  unfold arrV at h2
  rw [Array.getElem?_eq_some_iff] at h2
  obtain ⟨hi, rfl⟩ := h2
  simp
  cases f i <;> rfl
set_option maxHeartbeats 4000000 in
theorem x5_init0 {l : Launch} {dC : Nat → ClassId} {dI : Nat → Nat → Nat} {dA : Nat → ClassId} {s0 : State} {b0 : Addr} (Z : Z0 l dC dI dA s0 b0) (A : Nat → Prop) (sz : Nat) (hA : ∀ q : Nat, sz ≤ q → A q) {σ : Nat → Nat} (Y : SS (dC, dI) dA σ s0) (ga : Nat) : Met l yX5_init (ws_ yX5_init cX5_init 1 none) ({ frames := 4, cells := 33, slots := 1056, locals := 240 } : Room) (gP [.ref ga] s0 A (fun H => H.size = sz ∧ va_P (dC, dI) vwCl [(ga, .inr (1, [.int 0, .int 0, .int 0, .int 0, .int 0, .null]))] H ∧ va_D A [(ga, .inr (1, [.int 0, .int 0, .int 0, .int 0, .int 0, .null]))])) (va_Qv (S := Nat) (fun _ => True) (B1 (dC, dI) A (fun sg => ([(ga, .inr (1, [.int (nI 3), .int (nI 0), .int (nI 0), .int (nI (3 + 0 + 0)), .int (nI (2 ^ (3 + 0 + 0) - 1)), .ref sg])), (sg, .inl (dA 9, 32, .inr (.inr (.inr (.inr (fun i => some (sg + 1 + i)))))))] ++ rwL (dA 0) 32 sg (sgT 3 0 0) 32)) (fun _ _ => True)) A) 33 1056 A := by
  refine Met.ofW (cc := cX5_init) (maxL := 1) (ret := none) (by decide) rfl ?_
  intro p e s m args below meth c s₁ B hml hv
  obtain ⟨hav, hG, hsz, hP, hD⟩ := hv
  have hx := B.exec
  have hb := B.bytes
  have hr := B.returns
  have hts := atoms_spec (ws := (ws_ yX5_init cX5_init 1 none)) B.pre
  have hts : ∀ w ∈ lw_all, w.before _ s = true := fun w h => hts w (List.mem_cons_of_mem _ h)
  have hown : s.vm.findClass RX5 = some m.cls := findClass_of_methodNamed B.named
  have hlocks := B.notSynchronized
  have hK := hG.K Z
  have hin : meth.name = "<init>" := (name_of_methodNamed B.named B.method).1
  subst hsz
  have hS : va_S A s.heap s.heap [] := va_S.rf
  have hl := lv_entry ([.ref ga]) (n := 1) (Nat.le_of_ble_eq_true rfl)
  rw [show entryFrame m args 1 = entryFrame m ([.ref ga] : List Value).toArray 1 from by rw [hav], lg_entry_eq]
  generalize (lg_sl ([.ref ga]) ++ List.replicate (1 - (lg_sl ([.ref ga])).length) Slot.unset).toArray = ls at hl ⊢
  have hl : lv_has ls 1 [(0, .ref ga)] := hl
  generalize hQe : MQ below _ _ s _ _ _ = Q
  change W p l e ({ frames := 4, cells := 33, slots := 1056, locals := 240 } : Room) s m args below meth c s.heap [] 0 0 Q (F0 m 0 ls [])
  refine lv_aload_n hx hb dX5_init_0 rfl (lv_at hl 0 rfl) ?_
  refine lv_iconst (v := nI 3) hx hb dX5_init_1 (by decide) ?_
  refine lv_iconst (v := nI 0) hx hb dX5_init_2 (by decide) ?_
  refine lv_iconst (v := nI 0) hx hb dX5_init_3 (by decide) ?_
  have hF9 := va_free (wc := [(ga, .inr (1, [.int 0, .int 0, .int 0, .int 0, .int 0, .null]))]) hD hS (fun q h => hA q h) [0] rfl
  refine c_v (wr := []) (va_runI (As := [.int (nI 3), .int (nI 0), .int (nI 0)]) (rest := []) ⟨hx, hb, hml, hown, hts⟩ (x5_init3 Z (va_A [(ga, .inr (1, [.int 0, .int 0, .int 0, .int 0, .int 0, .null]))] s.heap.size) s.heap.size (fun q h => Or.inr h) Y ga 3 0 0 (by decide)) (cwI 3 hts (lw_meth q190) rfl rfl rfl (hts _ q101) (hts _ q188) (hts _ q189) rfl (by decide +kernel) ⟨Nat.le_of_ble_eq_true rfl, Nat.le_of_ble_eq_true rfl⟩) (gP_S hG hS (fun q _ h => hF9 q h) ⟨rfl, (hP.sub (ws' := [(ga, .inr (1, [.int 0, .int 0, .int 0, .int 0, .int 0, .null]))]) [0] rfl), (hD.sub (ws' := [(ga, .inr (1, [.int 0, .int 0, .int 0, .int 0, .int 0, .null]))]) [0] (by decide) rfl).self⟩) rfl rfl hl.1 rfl (lv_room (Nat.le_of_ble_eq_true rfl)) dX5_init_4 ⟨by first | decide | omega | (show _ ≤ (33 : Nat); omega), by first | decide | omega | (show _ ≤ (1056 : Nat); omega)⟩) hP hD hS hA [0] [] rfl rfl (by decide) (by decide) (fun u9 H locs hq hX hz hk hP hD hS => ?_)
  obtain ⟨sg9_0, rfl⟩ : ∃ z, z = u9 := ⟨_, rfl⟩
  have hP : va_P (dC, dI) vwCl ([(ga, .inr (1, [.int (nI 3), .int (nI 0), .int (nI 0), .int (nI (3 + 0 + 0)), .int (nI (2 ^ (3 + 0 + 0) - 1)), .ref sg9_0])), (sg9_0, .inl (dA 9, 32, .inr (.inr (.inr (.inr (fun i => some (sg9_0 + 1 + i)))))))] ++ rwL (dA 0) 32 sg9_0 (sgT 3 0 0) 32) H := hP
  have hD : va_D A ([(ga, .inr (1, [.int (nI 3), .int (nI 0), .int (nI 0), .int (nI (3 + 0 + 0)), .int (nI (2 ^ (3 + 0 + 0) - 1)), .ref sg9_0])), (sg9_0, .inl (dA 9, 32, .inr (.inr (.inr (.inr (fun i => some (sg9_0 + 1 + i)))))))] ++ rwL (dA 0) 32 sg9_0 (sgT 3 0 0) 32) := hD
  subst hQe
  refine W.widen (k := 33) (n := 1056) (by first | decide | omega) (by first | decide | omega) ?_
  exact W.vret hx hb hr (fun tz ht hW => ⟨⟨sg9_0, rfl, trivial, ht ▸ hP, hD, trivial⟩, hS.F ht⟩) hS.2.2 dX5_init_7
set_option maxHeartbeats 4000000 in
theorem x4_empty {l : Launch} {dC : Nat → ClassId} {dI : Nat → Nat → Nat} {dA : Nat → ClassId} {s0 : State} {b0 : Addr} (Z : Z0 l dC dI dA s0 b0) (A : Nat → Prop) (sz : Nat) (hA : ∀ q : Nat, sz ≤ q → A q) {σ : Nat → Nat} (Y : SS (dC, dI) dA σ s0) (wa ga wr : Nat) (fr : Nat → Option Nat) : Met l yX4_empty (ws_ yX4_empty cX4_empty 2 none) ({ frames := 1, cells := 0, slots := 0, locals := 60 } : Room) (gP [.ref wa] s0 A (fun H => H.size = sz ∧ va_P (dC, dI) vwCl [(wr, .inl (dA 4, 8, .inr (.inr (.inr (.inr fr)))))] H ∧ va_D A [(wr, .inl (dA 4, 8, .inr (.inr (.inr (.inr fr)))))] ∧ RO A (dC, dI) [(wa, .inr (4, [.ref ga, .ref wr]))] H)) (va_Qv (S := Unit) (fun _ => True) (B1 (dC, dI) A (fun _ => [(wr, .inl (dA 4, 8, .inr (.inr (.inr (.inr (fun _ => some (σ 1)))))))]) (fun _ _ => True)) A) 0 0 A := by
  refine Met.ofW (cc := cX4_empty) (maxL := 2) (ret := none) (by decide) rfl ?_
  intro p e s m args below meth c s₁ B hml hv
  obtain ⟨hav, hG, hsz, hP, hD, hR0⟩ := hv
  have hx := B.exec
  have hb := B.bytes
  have hr := B.returns
  have hts := atoms_spec (ws := (ws_ yX4_empty cX4_empty 2 none)) B.pre
  have hts : ∀ w ∈ lw_all, w.before _ s = true := fun w h => hts w (List.mem_cons_of_mem _ h)
  have hown : s.vm.findClass RX4 = some m.cls := findClass_of_methodNamed B.named
  have hlocks := B.notSynchronized
  have hK := hG.K Z
  subst hsz
  have hS : va_S A s.heap s.heap [] := va_S.rf
  have hl := lv_entry ([.ref wa]) (n := 2) (Nat.le_of_ble_eq_true rfl)
  rw [show entryFrame m args 2 = entryFrame m ([.ref wa] : List Value).toArray 2 from by rw [hav], lg_entry_eq]
  generalize (lg_sl ([.ref wa]) ++ List.replicate (2 - (lg_sl ([.ref wa])).length) Slot.unset).toArray = ls at hl ⊢
  have hl : lv_has ls 2 [(0, .ref wa)] := hl
  generalize hQe : MQ below _ _ s _ _ _ = Q
  change W p l e ({ frames := 1, cells := 0, slots := 0, locals := 60 } : Room) s m args below meth c s.heap [] 0 0 Q (F0 m 0 ls [])
  have hR1 := hG.RO (SS.zero Y).2
  refine lv_iconst (v := nI 0) hx hb dX4_empty_0 (by decide) ?_
  refine lv_istore_n (lv' := [(1, .int (nI 0)), (0, .ref wa)]) hx hb dX4_empty_1 rfl hl (by decide) rfl (fun ls hl => ?_)
  have e9 : (fr : Nat → Option Nat) = (rgZ fr (σ 1) 0) := rgZ_0.symm
  rw [e9] at hP hD; clear e9
  have loop_1 : ∀ (n9_1 : Nat) (k : Nat) (H : Heap) (locs : List Loc) (ls : Array Slot), 9 - k < n9_1 → (k ≤ 8) → va_P (dC, dI) vwCl [(wr, .inl (dA 4, 8, .inr (.inr (.inr (.inr (rgZ fr (σ 1) k))))))] H → va_D A [(wr, .inl (dA 4, 8, .inr (.inr (.inr (.inr (rgZ fr (σ 1) k))))))] → va_S A s.heap H locs → lv_has ls 2 [(0, .ref wa), (1, .int (nI k))] → W p l e ({ frames := 1, cells := 0, slots := 0, locals := 60 } : Room) s m args below meth c H locs 0 0 Q (F0 m 2 ls []) := by
    intro n9_1
    induction n9_1 with
    | zero => intro k H locs ls hm_1; exact absurd hm_1 (Nat.not_lt_zero _)
    | succ n9_1 ih_1 =>
      intro k H locs ls hm_1 hk9 hP hD hS hl
      refine lv_iload_n hx hb dX4_empty_2 rfl (lv_at hl 1 rfl) ?_
      refine lv_bipush (v := nI 8) hx hb dX4_empty_3 (by decide) ?_
      refine lv_icmp_ge (tgt := 23) hx hb dX4_empty_5 (by decide) (fun c_5 => ?_) (fun c_5 => ?_)
      · have c_5 : 8 ≤ k := (nI_leI (a := 8) (b := k) (by omega) (by omega)).mp c_5
        obtain rfl : k = 8 := by omega
        have hP := P_R hP 0 (fun _ => some (σ 1)) rfl (fun j hj => rgZ_8 hj)
        have hD := va_D.set (e := .inl (dA 4, 8, .inr (.inr (.inr (.inr (fun _ => some (σ 1))))))) hD (p := 0) rfl
        have hP : va_P (dC, dI) vwCl [(wr, .inl (dA 4, 8, .inr (.inr (.inr (.inr (fun _ => some (σ 1)))))))] H := hP
        have hD : va_D A [(wr, .inl (dA 4, 8, .inr (.inr (.inr (.inr (fun _ => some (σ 1)))))))] := hD
        subst hQe
        exact W.vret hx hb hr (fun tz ht hW => ⟨⟨(), rfl, trivial, B1_at ht (hP.sub [0] rfl) (hD.sub [0] (by decide) rfl) trivial⟩, hS.F ht⟩) hS.2.2 dX4_empty_23
      · have c_5 : ¬ 8 ≤ k := fun h => c_5 ((nI_leI (a := 8) (b := k) (by omega) (by omega)).mpr h)
        refine lv_aload_n hx hb dX4_empty_8 rfl (lv_at hl 0 rfl) ?_
        refine va_get (D := (dC, dI)) (ci := 4) (v := .ref wr) (C := RX4) (T := TX4) (N := 2) hx hb hts in_X4 hown hK (hR0.up hS) 0 rfl rfl 1 (by decide) (hts _ q242) (fun _ h9 => h9) rfl dX4_empty_9 ?_
        refine lv_iload_n hx hb dX4_empty_12 rfl (lv_at hl 1 rfl) ?_
        refine va_gets (v := .ref (σ 1)) hx hb (hG.Z Z (SS.zero Y).1) hS hown (hts _ q237) (fun _ h9 => h9) dX4_empty_13 ?_
        refine a_astM hx hb hK hP hD hS 0 4 rfl rfl (any_of hK (hR1.up hS) 0 rfl rfl) (by omega) (by decide) dX4_empty_16 (fun H locs hP hD hS => ?_)
        have hP : va_P (dC, dI) vwCl [(wr, .inl (dA 4, 8, .inr (.inr (.inr (.inr (va_up (rgZ fr (σ 1) k) k (some (σ 1))))))))] H := hP
        have hD : va_D A [(wr, .inl (dA 4, 8, .inr (.inr (.inr (.inr (va_up (rgZ fr (σ 1) k) k (some (σ 1))))))))] := hD
        have e9 : (va_up (rgZ fr (σ 1) k) k (some (σ 1)) : Nat → Option Nat) = (rgZ fr (σ 1) (k + 1)) := rgZ_s
        rw [e9] at hP hD; clear e9
        refine lv_iinc (v := nI (k + 1)) (lv' := [(1, .int (nI (k + 1))), (0, .ref wa)]) hx hb dX4_empty_17 hl (k := 1) rfl (by exact nI_add _ 1) (by decide) rfl (fun ls hl => ?_)
        refine lv_goto (tgt := 2) hx hb dX4_empty_20 (by decide) ?_
        exact ih_1 (k + 1) H locs ls (by omega) (by omega) (hP.sub [0] rfl) (hD.sub [0] (by decide) rfl) hS (lv_sub hl [1, 0] rfl)
  exact loop_1 _ 0 s.heap [] ls (Nat.lt_succ_self _) (by decide) hP hD hS (lv_sub hl [1, 0] rfl)
set_option maxHeartbeats 4000000 in
theorem x4_becomes {l : Launch} {dC : Nat → ClassId} {dI : Nat → Nat → Nat} {dA : Nat → ClassId} {s0 : State} {b0 : Addr} (Z : Z0 l dC dI dA s0 b0) (A : Nat → Prop) (sz : Nat) (hA : ∀ q : Nat, sz ≤ q → A q) {σ : Nat → Nat} (Y : SS (dC, dI) dA σ s0) (wa ga wr va gb vr : Nat) (fr : Nat → Option Nat) (rm rr : Nat → Nat) (Ms : Nat → MV) : Met l yX4_becomes (ws_ yX4_becomes cX4_becomes 2 none) ({ frames := 2, cells := 0, slots := 0, locals := 120 } : Room) (gP [.ref wa, .ref va] s0 A (fun H => H.size = sz ∧ va_P (dC, dI) vwCl [(wa, .inr (4, [.ref ga, .ref wr])), (wr, .inl (dA 4, 8, .inr (.inr (.inr (.inr fr))))), (vr, .inl (dA 4, 8, .inr (.inr (.inr (.inr (fun k => some (rm k)))))))] H ∧ va_D A [(wa, .inr (4, [.ref ga, .ref wr])), (wr, .inl (dA 4, 8, .inr (.inr (.inr (.inr fr))))), (vr, .inl (dA 4, 8, .inr (.inr (.inr (.inr (fun k => some (rm k)))))))] ∧ RO A (dC, dI) [(va, .inr (4, [.ref gb, .ref vr]))] H ∧ RG A (dC, dI) dA rm rr Ms H)) (va_Qv (S := Unit) (fun _ => True) (B1 (dC, dI) A (fun _ => [(wa, .inr (4, [.ref gb, .ref wr])), (wr, .inl (dA 4, 8, .inr (.inr (.inr (.inr (fun k => some (rm k))))))), (vr, .inl (dA 4, 8, .inr (.inr (.inr (.inr (fun k => some (rm k)))))))]) (fun _ _ => True)) A) 0 0 A := by
  refine Met.ofW (cc := cX4_becomes) (maxL := 2) (ret := none) (by decide) rfl ?_
  intro p e s m args below meth c s₁ B hml hv
  obtain ⟨hav, hG, hsz, hP, hD, hR0, hRG⟩ := hv
  have hx := B.exec
  have hb := B.bytes
  have hr := B.returns
  have hts := atoms_spec (ws := (ws_ yX4_becomes cX4_becomes 2 none)) B.pre
  have hts : ∀ w ∈ lw_all, w.before _ s = true := fun w h => hts w (List.mem_cons_of_mem _ h)
  have hown : s.vm.findClass RX4 = some m.cls := findClass_of_methodNamed B.named
  have hlocks := B.notSynchronized
  have hK := hG.K Z
  subst hsz
  have hS : va_S A s.heap s.heap [] := va_S.rf
  have hl := lv_entry ([.ref wa, .ref va]) (n := 2) (Nat.le_of_ble_eq_true rfl)
  rw [show entryFrame m args 2 = entryFrame m ([.ref wa, .ref va] : List Value).toArray 2 from by rw [hav], lg_entry_eq]
  generalize (lg_sl ([.ref wa, .ref va]) ++ List.replicate (2 - (lg_sl ([.ref wa, .ref va])).length) Slot.unset).toArray = ls at hl ⊢
  have hl : lv_has ls 2 [(0, .ref wa), (1, .ref va)] := hl
  generalize hQe : MQ below _ _ s _ _ _ = Q
  change W p l e ({ frames := 2, cells := 0, slots := 0, locals := 120 } : Room) s m args below meth c s.heap [] 0 0 Q (F0 m 0 ls [])
  refine lv_aload_n hx hb dX4_becomes_0 rfl (lv_at hl 0 rfl) ?_
  refine lv_aload_n hx hb dX4_becomes_1 rfl (lv_at hl 1 rfl) ?_
  refine va_get (D := (dC, dI)) (ci := 4) (v := .ref gb) (C := RX4) (T := TX4) (N := 2) hx hb hts in_X4 hown hK (hR0.up hS) 0 rfl rfl 0 (by decide) (hts _ q239) (fun _ h9 => h9) rfl dX4_becomes_2 ?_
  refine va_put (D := (dC, dI)) (ci := 4) (v := .ref gb) (ty := (tyX4 0)) (C := RX4) (T := TX4) (N := 2) hx hb hts in_X4 tyX4 tyX4_ok nmX4 hown hK hP hD hS 0 rfl rfl 0 (by decide) (hts _ q239) (fun _ h9 => h9) rfl (by decide +kernel) rfl rfl (Nat.le_of_ble_eq_true rfl) dX4_becomes_5 (fun H locs hP hD hS => ?_)
  have hP : va_P (dC, dI) vwCl [(wa, .inr (4, [.ref gb, .ref wr])), (wr, .inl (dA 4, 8, .inr (.inr (.inr (.inr fr))))), (vr, .inl (dA 4, 8, .inr (.inr (.inr (.inr (fun k => some (rm k)))))))] H := hP
  have hD : va_D A [(wa, .inr (4, [.ref gb, .ref wr])), (wr, .inl (dA 4, 8, .inr (.inr (.inr (.inr fr))))), (vr, .inl (dA 4, 8, .inr (.inr (.inr (.inr (fun k => some (rm k)))))))] := hD
  refine lv_aload_n hx hb dX4_becomes_8 rfl (lv_at hl 1 rfl) ?_
  refine va_get (D := (dC, dI)) (ci := 4) (v := .ref vr) (C := RX4) (T := TX4) (N := 2) hx hb hts in_X4 hown hK (hR0.up hS) 0 rfl rfl 1 (by decide) (hts _ q242) (fun _ h9 => h9) rfl dX4_becomes_9 ?_
  refine lv_iconst (v := nI 0) hx hb dX4_becomes_12 (by decide) ?_
  refine lv_aload_n hx hb dX4_becomes_13 rfl (lv_at hl 0 rfl) ?_
  refine va_get (D := (dC, dI)) (ci := 4) (v := .ref wr) (C := RX4) (T := TX4) (N := 2) hx hb hts in_X4 hown hK hP 0 rfl rfl 1 (by decide) (hts _ q242) (fun _ h9 => h9) rfl dX4_becomes_14 ?_
  refine lv_iconst (v := nI 0) hx hb dX4_becomes_17 (by decide) ?_
  refine lv_bipush (v := nI 8) hx hb dX4_becomes_18 (by decide) ?_
  refine va_copyM hx hb (hml.trans hl.1.symm) hown (hts _ q1992) (hts _ q1461) (hts _ q1460) (hts _ q137) hK hP hD hS 2 1 4 4 rfl rfl rfl rfl (by decide) (by decide) (by decide) (by decide) (by decide) (fun i hi y hy => by cases hy; exact any_of hK ((hRG (0 + i) (show 0 + i < 8 from (Nat.zero_add i).symm ▸ hi)).up hS) 0 rfl rfl) (Nat.le_of_ble_eq_true rfl) (Nat.le_of_ble_eq_true rfl) dX4_becomes_20 (fun H locs hP hD hS => ?_)
  have hP : va_P (dC, dI) vwCl [(wa, .inr (4, [.ref gb, .ref wr])), (wr, .inl (dA 4, 8, .inr (.inr (.inr (.inr (va_cpy (fun k => some (rm k)) fr ((nI 0).toNatClampNeg) ((nI 0).toNatClampNeg) ((nI 8).toNatClampNeg))))))), (vr, .inl (dA 4, 8, .inr (.inr (.inr (.inr (fun k => some (rm k)))))))] H := hP
  have hD : va_D A [(wa, .inr (4, [.ref gb, .ref wr])), (wr, .inl (dA 4, 8, .inr (.inr (.inr (.inr (va_cpy (fun k => some (rm k)) fr ((nI 0).toNatClampNeg) ((nI 0).toNatClampNeg) ((nI 8).toNatClampNeg))))))), (vr, .inl (dA 4, 8, .inr (.inr (.inr (.inr (fun k => some (rm k)))))))] := hD
  have hP := P_R hP 1 (fun k => some (rm k)) rfl (fun j hj => cpy_8 hj)
  have hD := va_D.set (e := .inl (dA 4, 8, .inr (.inr (.inr (.inr (fun k => some (rm k))))))) hD (p := 1) rfl
  have hP : va_P (dC, dI) vwCl [(wa, .inr (4, [.ref gb, .ref wr])), (wr, .inl (dA 4, 8, .inr (.inr (.inr (.inr (fun k => some (rm k))))))), (vr, .inl (dA 4, 8, .inr (.inr (.inr (.inr (fun k => some (rm k)))))))] H := hP
  have hD : va_D A [(wa, .inr (4, [.ref gb, .ref wr])), (wr, .inl (dA 4, 8, .inr (.inr (.inr (.inr (fun k => some (rm k))))))), (vr, .inl (dA 4, 8, .inr (.inr (.inr (.inr (fun k => some (rm k)))))))] := hD
  subst hQe
  exact W.vret hx hb hr (fun tz ht hW => ⟨⟨(), rfl, trivial, B1_at ht (hP.sub [0, 1, 2] rfl) (hD.sub [0, 1, 2] (by decide) rfl) trivial⟩, hS.F ht⟩) hS.2.2 dX4_becomes_23
set_option maxHeartbeats 4000000 in
theorem x4_init {l : Launch} {dC : Nat → ClassId} {dI : Nat → Nat → Nat} {dA : Nat → ClassId} {s0 : State} {b0 : Addr} (Z : Z0 l dC dI dA s0 b0) (A : Nat → Prop) (sz : Nat) (hA : ∀ q : Nat, sz ≤ q → A q) {σ : Nat → Nat} (Y : SS (dC, dI) dA σ s0) (wa : Nat) : Met l yX4_init (ws_ yX4_init cX4_init 1 none) ({ frames := 5, cells := 35, slots := 1070, locals := 300 } : Room) (gP [.ref wa] s0 A (fun H => H.size = sz ∧ va_P (dC, dI) vwCl [(wa, .inr (4, [.null, .null]))] H ∧ va_D A [(wa, .inr (4, [.null, .null]))])) (va_Qv (S := Nat × Nat × Nat) (fun _ => True) (B1 (dC, dI) A (fun u => ([(wa, .inr (4, [.ref u.1, .ref u.2.2])), (u.2.2, .inl (dA 4, 8, .inr (.inr (.inr (.inr (fun _ => some (σ 1))))))), (u.1, .inr (1, [.int (nI 3), .int (nI 0), .int (nI 0), .int (nI (3 + 0 + 0)), .int (nI (2 ^ (3 + 0 + 0) - 1)), .ref u.2.1])), (u.2.1, .inl (dA 9, 32, .inr (.inr (.inr (.inr (fun i => some (u.2.1 + 1 + i)))))))] ++ rwL (dA 0) 32 u.2.1 (sgT 3 0 0) 32)) (fun _ _ => True)) A) 35 1070 A := by
  refine Met.ofW (cc := cX4_init) (maxL := 1) (ret := none) (by decide) rfl ?_
  intro p e s m args below meth c s₁ B hml hv
  obtain ⟨hav, hG, hsz, hP, hD⟩ := hv
  have hx := B.exec
  have hb := B.bytes
  have hr := B.returns
  have hts := atoms_spec (ws := (ws_ yX4_init cX4_init 1 none)) B.pre
  have hts : ∀ w ∈ lw_all, w.before _ s = true := fun w h => hts w (List.mem_cons_of_mem _ h)
  have hown : s.vm.findClass RX4 = some m.cls := findClass_of_methodNamed B.named
  have hlocks := B.notSynchronized
  have hK := hG.K Z
  have hin : meth.name = "<init>" := (name_of_methodNamed B.named B.method).1
  subst hsz
  have hS : va_S A s.heap s.heap [] := va_S.rf
  have hl := lv_entry ([.ref wa]) (n := 1) (Nat.le_of_ble_eq_true rfl)
  rw [show entryFrame m args 1 = entryFrame m ([.ref wa] : List Value).toArray 1 from by rw [hav], lg_entry_eq]
  generalize (lg_sl ([.ref wa]) ++ List.replicate (1 - (lg_sl ([.ref wa])).length) Slot.unset).toArray = ls at hl ⊢
  have hl : lv_has ls 1 [(0, .ref wa)] := hl
  generalize hQe : MQ below _ _ s _ _ _ = Q
  change W p l e ({ frames := 5, cells := 35, slots := 1070, locals := 300 } : Room) s m args below meth c s.heap [] 0 0 Q (F0 m 0 ls [])
  refine lv_aload_n hx hb dX4_init_0 rfl (lv_at hl 0 rfl) ?_
  refine W.objInit hx hb hown (hts _ q182) (hts _ q151) (hts _ q152) rfl (by rw [hml]; exact hl.1) rfl dX4_init_1 (Nat.le_of_ble_eq_true rfl) (Nat.le_of_ble_eq_true rfl) ?_
  show W p l e ({ frames := 5, cells := 35, slots := 1070, locals := 300 } : Room) s m args below meth c s.heap [] 0 0 Q (F0 m 4 ls [])
  refine lv_aload_n hx hb dX4_init_4 rfl (lv_at hl 0 rfl) ?_
  refine va_new (D := (dC, dI)) (ci := 1) (fs := [.int 0, .int 0, .int 0, .int 0, .int 0, .null]) (C := RX5) (T := TX5) (N := 6) hx hb hts in_X5 tyX5 tyX5_ok hown (hts _ q183) (hts _ q184) (hts _ q101) hK hP hD hS hA rfl (fun j hj => by rcases (show j = 0 ∨ j = 1 ∨ j = 2 ∨ j = 3 ∨ j = 4 ∨ j = 5 by omega) with rfl | rfl | rfl | rfl | rfl | rfl <;> rfl) (by first | decide | omega) (by first | decide | omega) dX4_init_5 (fun nw_1 H hP hD hS => ?_)
  have hP : va_P (dC, dI) vwCl [(wa, .inr (4, [.null, .null])), (nw_1, .inr (1, [.int 0, .int 0, .int 0, .int 0, .int 0, .null]))] H := hP
  have hD : va_D A [(wa, .inr (4, [.null, .null])), (nw_1, .inr (1, [.int 0, .int 0, .int 0, .int 0, .int 0, .null]))] := hD
  refine lv_dup hx hb dX4_init_8 rfl ?_
  have hF9 := va_free (wc := [(nw_1, .inr (1, [.int 0, .int 0, .int 0, .int 0, .int 0, .null]))]) hD hS (fun q h => hA q h) [1] rfl
  refine c_v (wr := [(wa, .inr (4, [.null, .null]))]) (va_runI (As := []) (rest := [.ref nw_1, .ref wa]) ⟨hx, hb, hml, hown, hts⟩ (x5_init0 Z (va_A [(nw_1, .inr (1, [.int 0, .int 0, .int 0, .int 0, .int 0, .null]))] H.size) H.size (fun q h => Or.inr h) Y nw_1) (cwI 0 hts (lw_meth q187) rfl rfl rfl (hts _ q101) (hts _ q185) (hts _ q186) rfl (by decide +kernel) ⟨Nat.le_of_ble_eq_true rfl, Nat.le_of_ble_eq_true rfl⟩) (gP_S hG hS (fun q _ h => hF9 q h) ⟨rfl, (hP.sub (ws' := [(nw_1, .inr (1, [.int 0, .int 0, .int 0, .int 0, .int 0, .null]))]) [1] rfl), (hD.sub (ws' := [(nw_1, .inr (1, [.int 0, .int 0, .int 0, .int 0, .int 0, .null]))]) [1] (by decide) rfl).self⟩) rfl rfl hl.1 rfl (lv_room (Nat.le_of_ble_eq_true rfl)) dX4_init_9 ⟨by first | decide | omega | (show _ ≤ (35 : Nat); omega), by first | decide | omega | (show _ ≤ (1070 : Nat); omega)⟩) hP hD hS hA [1] [0] rfl rfl (by decide) (by decide) (fun u9 H locs hq hX hz hk hP hD hS => ?_)
  obtain ⟨sg9_1, rfl⟩ : ∃ z, z = u9 := ⟨_, rfl⟩
  have hP : va_P (dC, dI) vwCl ([(wa, .inr (4, [.null, .null])), (nw_1, .inr (1, [.int (nI 3), .int (nI 0), .int (nI 0), .int (nI (3 + 0 + 0)), .int (nI (2 ^ (3 + 0 + 0) - 1)), .ref sg9_1])), (sg9_1, .inl (dA 9, 32, .inr (.inr (.inr (.inr (fun i => some (sg9_1 + 1 + i)))))))] ++ rwL (dA 0) 32 sg9_1 (sgT 3 0 0) 32) H := hP
  have hD : va_D A ([(wa, .inr (4, [.null, .null])), (nw_1, .inr (1, [.int (nI 3), .int (nI 0), .int (nI 0), .int (nI (3 + 0 + 0)), .int (nI (2 ^ (3 + 0 + 0) - 1)), .ref sg9_1])), (sg9_1, .inl (dA 9, 32, .inr (.inr (.inr (.inr (fun i => some (sg9_1 + 1 + i)))))))] ++ rwL (dA 0) 32 sg9_1 (sgT 3 0 0) 32) := hD
  refine va_put (D := (dC, dI)) (ci := 4) (v := .ref nw_1) (ty := (tyX4 0)) (C := RX4) (T := TX4) (N := 2) hx hb hts in_X4 tyX4 tyX4_ok nmX4 hown hK hP hD hS 0 rfl rfl 0 (by decide) (hts _ q239) (fun _ h9 => h9) rfl (by decide +kernel) rfl rfl (Nat.le_of_ble_eq_true rfl) dX4_init_12 (fun H locs hP hD hS => ?_)
  have hP : va_P (dC, dI) vwCl ([(wa, .inr (4, [.ref nw_1, .null])), (nw_1, .inr (1, [.int (nI 3), .int (nI 0), .int (nI 0), .int (nI (3 + 0 + 0)), .int (nI (2 ^ (3 + 0 + 0) - 1)), .ref sg9_1])), (sg9_1, .inl (dA 9, 32, .inr (.inr (.inr (.inr (fun i => some (sg9_1 + 1 + i)))))))] ++ rwL (dA 0) 32 sg9_1 (sgT 3 0 0) 32) H := hP
  have hD : va_D A ([(wa, .inr (4, [.ref nw_1, .null])), (nw_1, .inr (1, [.int (nI 3), .int (nI 0), .int (nI 0), .int (nI (3 + 0 + 0)), .int (nI (2 ^ (3 + 0 + 0) - 1)), .ref sg9_1])), (sg9_1, .inl (dA 9, 32, .inr (.inr (.inr (.inr (fun i => some (sg9_1 + 1 + i)))))))] ++ rwL (dA 0) 32 sg9_1 (sgT 3 0 0) 32) := hD
  refine lv_aload_n hx hb dX4_init_15 rfl (lv_at hl 0 rfl) ?_
  refine lv_bipush (v := nI 8) hx hb dX4_init_16 (by decide) ?_
  refine a_newq (N' := 8) hx hb hown (hts _ q231) (aoZ Z hG q232) hK hP hD hS hA 4 rfl (by decide) (by decide) (by decide) (by first | decide | omega) (by first | decide | omega) dX4_init_18 (fun na_2 H locs hP hD hS => ?_)
  have hP : va_P (dC, dI) vwCl ([(wa, .inr (4, [.ref nw_1, .null])), (nw_1, .inr (1, [.int (nI 3), .int (nI 0), .int (nI 0), .int (nI (3 + 0 + 0)), .int (nI (2 ^ (3 + 0 + 0) - 1)), .ref sg9_1])), (sg9_1, .inl (dA 9, 32, .inr (.inr (.inr (.inr (fun i => some (sg9_1 + 1 + i)))))))] ++ rwL (dA 0) 32 sg9_1 (sgT 3 0 0) 32 ++ [(na_2, .inl (dA 4, 8, .inr (.inr (.inr (.inr (fun _ => none))))))]) H := hP
  have hD : va_D A ([(wa, .inr (4, [.ref nw_1, .null])), (nw_1, .inr (1, [.int (nI 3), .int (nI 0), .int (nI 0), .int (nI (3 + 0 + 0)), .int (nI (2 ^ (3 + 0 + 0) - 1)), .ref sg9_1])), (sg9_1, .inl (dA 9, 32, .inr (.inr (.inr (.inr (fun i => some (sg9_1 + 1 + i)))))))] ++ rwL (dA 0) 32 sg9_1 (sgT 3 0 0) 32 ++ [(na_2, .inl (dA 4, 8, .inr (.inr (.inr (.inr (fun _ => none))))))]) := hD
  have hP := hP.sub (ws' := ([(wa, .inr (4, [.ref nw_1, .null])), (nw_1, .inr (1, [.int (nI 3), .int (nI 0), .int (nI 0), .int (nI (3 + 0 + 0)), .int (nI (2 ^ (3 + 0 + 0) - 1)), .ref sg9_1])), (sg9_1, .inl (dA 9, 32, .inr (.inr (.inr (.inr (fun i => some (sg9_1 + 1 + i))))))), (na_2, .inl (dA 4, 8, .inr (.inr (.inr (.inr (fun _ => none))))))] ++ rwL (dA 0) 32 sg9_1 (sgT 3 0 0) 32)) [0, 1, 2, 35, 3, 4, 5, 6, 7, 8, 9, 10, 11, 12, 13, 14, 15, 16, 17, 18, 19, 20, 21, 22, 23, 24, 25, 26, 27, 28, 29, 30, 31, 32, 33, 34] rfl
  have hD := hD.sub (ws' := ([(wa, .inr (4, [.ref nw_1, .null])), (nw_1, .inr (1, [.int (nI 3), .int (nI 0), .int (nI 0), .int (nI (3 + 0 + 0)), .int (nI (2 ^ (3 + 0 + 0) - 1)), .ref sg9_1])), (sg9_1, .inl (dA 9, 32, .inr (.inr (.inr (.inr (fun i => some (sg9_1 + 1 + i))))))), (na_2, .inl (dA 4, 8, .inr (.inr (.inr (.inr (fun _ => none))))))] ++ rwL (dA 0) 32 sg9_1 (sgT 3 0 0) 32)) [0, 1, 2, 35, 3, 4, 5, 6, 7, 8, 9, 10, 11, 12, 13, 14, 15, 16, 17, 18, 19, 20, 21, 22, 23, 24, 25, 26, 27, 28, 29, 30, 31, 32, 33, 34] (by decide) rfl
  refine va_putF (D := (dC, dI)) (ci := 4) (v := .ref na_2) (ty := (tyX4 1)) (C := RX4) (T := TX4) (N := 2) hx hb hts in_X4 tyX4 tyX4_ok nmX4 hown hK hP hD hS 0 rfl rfl 1 (by decide) (hts _ q242) (fun _ h9 => h9) rfl hin rfl (by decide +kernel) rfl rfl (Nat.le_of_ble_eq_true rfl) dX4_init_21 (fun H locs hP hD hS => ?_)
  have hP : va_P (dC, dI) vwCl ([(wa, .inr (4, [.ref nw_1, .ref na_2])), (nw_1, .inr (1, [.int (nI 3), .int (nI 0), .int (nI 0), .int (nI (3 + 0 + 0)), .int (nI (2 ^ (3 + 0 + 0) - 1)), .ref sg9_1])), (sg9_1, .inl (dA 9, 32, .inr (.inr (.inr (.inr (fun i => some (sg9_1 + 1 + i))))))), (na_2, .inl (dA 4, 8, .inr (.inr (.inr (.inr (fun _ => none))))))] ++ rwL (dA 0) 32 sg9_1 (sgT 3 0 0) 32) H := hP
  have hD : va_D A ([(wa, .inr (4, [.ref nw_1, .ref na_2])), (nw_1, .inr (1, [.int (nI 3), .int (nI 0), .int (nI 0), .int (nI (3 + 0 + 0)), .int (nI (2 ^ (3 + 0 + 0) - 1)), .ref sg9_1])), (sg9_1, .inl (dA 9, 32, .inr (.inr (.inr (.inr (fun i => some (sg9_1 + 1 + i))))))), (na_2, .inl (dA 4, 8, .inr (.inr (.inr (.inr (fun _ => none))))))] ++ rwL (dA 0) 32 sg9_1 (sgT 3 0 0) 32) := hD
  refine lv_aload_n hx hb dX4_init_24 rfl (lv_at hl 0 rfl) ?_
  have hF9 := va_free (wc := [(na_2, .inl (dA 4, 8, .inr (.inr (.inr (.inr (fun _ => none))))))]) hD hS (fun q h => hA q h) [3] rfl
  refine c_v (wr := ([(wa, .inr (4, [.ref nw_1, .ref na_2])), (nw_1, .inr (1, [.int (nI 3), .int (nI 0), .int (nI 0), .int (nI (3 + 0 + 0)), .int (nI (2 ^ (3 + 0 + 0) - 1)), .ref sg9_1])), (sg9_1, .inl (dA 9, 32, .inr (.inr (.inr (.inr (fun i => some (sg9_1 + 1 + i)))))))] ++ rwL (dA 0) 32 sg9_1 (sgT 3 0 0) 32)) (va_runV (As := []) (rest := []) ⟨hx, hb, hml, hown, hts⟩ (x4_empty Z (va_A [(na_2, .inl (dA 4, 8, .inr (.inr (.inr (.inr (fun _ => none))))))] H.size) H.size (fun q h => Or.inr h) Y wa nw_1 na_2 (fun _ => none)) (cwV 0 hts (lw_V q233 q234 q235 q100 q236) rfl rfl rfl (by decide +kernel) ⟨Nat.le_of_ble_eq_true rfl, Nat.le_of_ble_eq_true rfl⟩) (gP_V (va_recv hK hP (ci := 4) (q0 := 0) rfl rfl) hG hS (fun q _ h => hF9 q h) ⟨rfl, (hP.sub (ws' := [(na_2, .inl (dA 4, 8, .inr (.inr (.inr (.inr (fun _ => none))))))]) [3] rfl), (hD.sub (ws' := [(na_2, .inl (dA 4, 8, .inr (.inr (.inr (.inr (fun _ => none))))))]) [3] (by decide) rfl).self, (RO.beside (wr := [(wa, .inr (4, [.ref nw_1, .ref na_2]))]) hP hD [3] [0] rfl rfl (by decide))⟩) rfl rfl hl.1 rfl (lv_room (Nat.le_of_ble_eq_true rfl)) dX4_init_25 ⟨by first | decide | omega | (show _ ≤ (35 : Nat); omega), by first | decide | omega | (show _ ≤ (1070 : Nat); omega)⟩) hP hD hS hA [3] [0, 1, 2, 4, 5, 6, 7, 8, 9, 10, 11, 12, 13, 14, 15, 16, 17, 18, 19, 20, 21, 22, 23, 24, 25, 26, 27, 28, 29, 30, 31, 32, 33, 34, 35] rfl rfl (by decide) (by decide) (fun u9 H locs hq hX hz hk hP hD hS => ?_)
  have hP : va_P (dC, dI) vwCl ([(wa, .inr (4, [.ref nw_1, .ref na_2])), (nw_1, .inr (1, [.int (nI 3), .int (nI 0), .int (nI 0), .int (nI (3 + 0 + 0)), .int (nI (2 ^ (3 + 0 + 0) - 1)), .ref sg9_1])), (sg9_1, .inl (dA 9, 32, .inr (.inr (.inr (.inr (fun i => some (sg9_1 + 1 + i)))))))] ++ rwL (dA 0) 32 sg9_1 (sgT 3 0 0) 32 ++ [(na_2, .inl (dA 4, 8, .inr (.inr (.inr (.inr (fun _ => some (σ 1)))))))]) H := hP
  have hD : va_D A ([(wa, .inr (4, [.ref nw_1, .ref na_2])), (nw_1, .inr (1, [.int (nI 3), .int (nI 0), .int (nI 0), .int (nI (3 + 0 + 0)), .int (nI (2 ^ (3 + 0 + 0) - 1)), .ref sg9_1])), (sg9_1, .inl (dA 9, 32, .inr (.inr (.inr (.inr (fun i => some (sg9_1 + 1 + i)))))))] ++ rwL (dA 0) 32 sg9_1 (sgT 3 0 0) 32 ++ [(na_2, .inl (dA 4, 8, .inr (.inr (.inr (.inr (fun _ => some (σ 1)))))))]) := hD
  have hP := hP.sub (ws' := ([(wa, .inr (4, [.ref nw_1, .ref na_2])), (nw_1, .inr (1, [.int (nI 3), .int (nI 0), .int (nI 0), .int (nI (3 + 0 + 0)), .int (nI (2 ^ (3 + 0 + 0) - 1)), .ref sg9_1])), (sg9_1, .inl (dA 9, 32, .inr (.inr (.inr (.inr (fun i => some (sg9_1 + 1 + i))))))), (na_2, .inl (dA 4, 8, .inr (.inr (.inr (.inr (fun _ => some (σ 1)))))))] ++ rwL (dA 0) 32 sg9_1 (sgT 3 0 0) 32)) [0, 1, 2, 35, 3, 4, 5, 6, 7, 8, 9, 10, 11, 12, 13, 14, 15, 16, 17, 18, 19, 20, 21, 22, 23, 24, 25, 26, 27, 28, 29, 30, 31, 32, 33, 34] rfl
  have hD := hD.sub (ws' := ([(wa, .inr (4, [.ref nw_1, .ref na_2])), (nw_1, .inr (1, [.int (nI 3), .int (nI 0), .int (nI 0), .int (nI (3 + 0 + 0)), .int (nI (2 ^ (3 + 0 + 0) - 1)), .ref sg9_1])), (sg9_1, .inl (dA 9, 32, .inr (.inr (.inr (.inr (fun i => some (sg9_1 + 1 + i))))))), (na_2, .inl (dA 4, 8, .inr (.inr (.inr (.inr (fun _ => some (σ 1)))))))] ++ rwL (dA 0) 32 sg9_1 (sgT 3 0 0) 32)) [0, 1, 2, 35, 3, 4, 5, 6, 7, 8, 9, 10, 11, 12, 13, 14, 15, 16, 17, 18, 19, 20, 21, 22, 23, 24, 25, 26, 27, 28, 29, 30, 31, 32, 33, 34] (by decide) rfl
  subst hQe
  refine W.widen (k := 35) (n := 1070) (by first | decide | omega) (by first | decide | omega) ?_
  exact W.vret hx hb hr (fun tz ht hW => ⟨⟨(nw_1, sg9_1, na_2), rfl, trivial, B1_at ht (hP.sub [0, 3, 1, 2, 4, 5, 6, 7, 8, 9, 10, 11, 12, 13, 14, 15, 16, 17, 18, 19, 20, 21, 22, 23, 24, 25, 26, 27, 28, 29, 30, 31, 32, 33, 34, 35] rfl) (hD.sub [0, 3, 1, 2, 4, 5, 6, 7, 8, 9, 10, 11, 12, 13, 14, 15, 16, 17, 18, 19, 20, 21, 22, 23, 24, 25, 26, 27, 28, 29, 30, 31, 32, 33, 34, 35] (by decide) rfl) trivial⟩, hS.F ht⟩) hS.2.2 dX4_init_28
set_option maxHeartbeats 4000000 in
theorem x2_values {l : Launch} {dC : Nat → ClassId} {dI : Nat → Nat → Nat} {dA : Nat → ClassId} {s0 : State} {b0 : Addr} (Z : Z0 l dC dI dA s0 b0) (A : Nat → Prop) (sz : Nat) (hA : ∀ q : Nat, sz ≤ q → A q) {σ : Nat → Nat} (Y : SS (dC, dI) dA σ s0) : Met l yX2_values (ws_ yX2_values cX2_values 0 (some (.array (.object "BladeAlgebra$Two")))) ({ frames := 1, cells := 1, slots := 9, locals := 60 } : Room) (gP [] s0 A (fun H => H.size = sz)) (va_Qr (S := Unit) (fun _ => True) (B1r (dC, dI) A (fun _ q => [(q, .inl (dA 6, 9, .inr (.inr (.inr (.inr (fun k => some (σ (20 + k))))))))]) (fun _ _ _ => True)) A) 1 9 A := by
  refine Met.ofW (cc := cX2_values) (maxL := 0) (ret := (some (.array (.object "BladeAlgebra$Two")))) (by decide) rfl ?_
  intro p e s m args below meth c s₁ B hml hv
  obtain ⟨hav, hG, hsz⟩ := hv
  have hx := B.exec
  have hb := B.bytes
  have hr := B.returns
  have hts := atoms_spec (ws := (ws_ yX2_values cX2_values 0 (some (.array (.object "BladeAlgebra$Two"))))) B.pre
  have hts : ∀ w ∈ lw_all, w.before _ s = true := fun w h => hts w (List.mem_cons_of_mem _ h)
  have hown : s.vm.findClass RX2 = some m.cls := findClass_of_methodNamed B.named
  have hlocks := B.notSynchronized
  have hK := hG.K Z
  subst hsz
  have hS : va_S A s.heap s.heap [] := va_S.rf
  have hP : va_P (dC, dI) vwCl [] s.heap := fun k q h => by simp at h
  have hD : va_D A [] := ⟨fun i j p q h => by simp at h, fun k q h => by simp at h⟩
  have hl := lv_entry ([]) (n := 0) (Nat.le_of_ble_eq_true rfl)
  rw [show entryFrame m args 0 = entryFrame m ([] : List Value).toArray 0 from by rw [hav], lg_entry_eq]
  generalize (lg_sl ([]) ++ List.replicate (0 - (lg_sl ([])).length) Slot.unset).toArray = ls at hl ⊢
  have hl : lv_has ls 0 [] := hl
  generalize hQe : MQ below _ _ s _ _ _ = Q
  change W p l e ({ frames := 1, cells := 1, slots := 9, locals := 60 } : Room) s m args below meth c s.heap [] 0 0 Q (F0 m 0 ls [])
  have hR0 := hG.RO (SS.tv Y).2
  refine va_gets (v := .ref (σ 3)) hx hb (hG.Z Z (SS.tv Y).1) hS hown (hts _ q156) (fun _ h9 => h9) dX2_values_0 ?_
  refine a_clone (ad := "[LBladeAlgebra$Two;") (x := (9, .inr (.inr (.inr (.inr (fun k => some (σ (20 + k)))))))) hx hb (hml.trans hl.1.symm) hown (hts _ q158) (hts _ q159) (hts _ q160) (hts _ q161) (hts _ q162) (va_Nw.warmC hG.1 (va_Nw.of rfl (Z.2.1 _ q163))) hK (hR0.up hS) hP hD hS hA 0 6 rfl (hR0.2 0 _ rfl) rfl (nm_obj (hK.2 6 _ rfl).2) fit_ref (Nat.le_of_ble_eq_true rfl) (by decide) (by first | decide | omega) (by first | exact Nat.le_of_ble_eq_true rfl | decide | omega) dX2_values_3 (fun cl_1 H hP hD hS => ?_)
  have hP : va_P (dC, dI) vwCl [(cl_1, .inl (dA 6, 9, .inr (.inr (.inr (.inr (fun k => some (σ (20 + k))))))))] H := hP
  have hD : va_D A [(cl_1, .inl (dA 6, 9, .inr (.inr (.inr (.inr (fun k => some (σ (20 + k))))))))] := hD
  refine va_castA hx hb hown (hts _ q165) hP 0 rfl (nm_obj (hK.2 6 _ rfl).2) dX2_values_6 ?_
  subst hQe
  refine W.widen (k := 1) (n := 9) (by first | decide | omega) (by first | decide | omega) ?_
  exact W.aret (v := .ref cl_1) hx hb hr (Or.inr ⟨_, rfl⟩) (Or.inr ⟨_, rfl⟩) (fun tz ht hW => ⟨⟨(), cl_1, rfl, trivial, B1r_at ht (hP.sub [0] rfl) (hD.sub [0] (by decide) rfl) trivial⟩, hS.F ht⟩) hS.2.2 dX2_values_9
set_option maxHeartbeats 4000000 in
theorem x3_values {l : Launch} {dC : Nat → ClassId} {dI : Nat → Nat → Nat} {dA : Nat → ClassId} {s0 : State} {b0 : Addr} (Z : Z0 l dC dI dA s0 b0) (A : Nat → Prop) (sz : Nat) (hA : ∀ q : Nat, sz ≤ q → A q) {σ : Nat → Nat} (Y : SS (dC, dI) dA σ s0) : Met l yX3_values (ws_ yX3_values cX3_values 0 (some (.array (.object "BladeAlgebra$One")))) ({ frames := 1, cells := 1, slots := 10, locals := 60 } : Room) (gP [] s0 A (fun H => H.size = sz)) (va_Qr (S := Unit) (fun _ => True) (B1r (dC, dI) A (fun _ q => [(q, .inl (dA 7, 10, .inr (.inr (.inr (.inr (fun k => some (σ (30 + k))))))))]) (fun _ _ _ => True)) A) 1 10 A := by
  refine Met.ofW (cc := cX3_values) (maxL := 0) (ret := (some (.array (.object "BladeAlgebra$One")))) (by decide) rfl ?_
  intro p e s m args below meth c s₁ B hml hv
  obtain ⟨hav, hG, hsz⟩ := hv
  have hx := B.exec
  have hb := B.bytes
  have hr := B.returns
  have hts := atoms_spec (ws := (ws_ yX3_values cX3_values 0 (some (.array (.object "BladeAlgebra$One"))))) B.pre
  have hts : ∀ w ∈ lw_all, w.before _ s = true := fun w h => hts w (List.mem_cons_of_mem _ h)
  have hown : s.vm.findClass RX3 = some m.cls := findClass_of_methodNamed B.named
  have hlocks := B.notSynchronized
  have hK := hG.K Z
  subst hsz
  have hS : va_S A s.heap s.heap [] := va_S.rf
  have hP : va_P (dC, dI) vwCl [] s.heap := fun k q h => by simp at h
  have hD : va_D A [] := ⟨fun i j p q h => by simp at h, fun k q h => by simp at h⟩
  have hl := lv_entry ([]) (n := 0) (Nat.le_of_ble_eq_true rfl)
  rw [show entryFrame m args 0 = entryFrame m ([] : List Value).toArray 0 from by rw [hav], lg_entry_eq]
  generalize (lg_sl ([]) ++ List.replicate (0 - (lg_sl ([])).length) Slot.unset).toArray = ls at hl ⊢
  have hl : lv_has ls 0 [] := hl
  generalize hQe : MQ below _ _ s _ _ _ = Q
  change W p l e ({ frames := 1, cells := 1, slots := 10, locals := 60 } : Room) s m args below meth c s.heap [] 0 0 Q (F0 m 0 ls [])
  have hR0 := hG.RO (SS.ov Y).2
  refine va_gets (v := .ref (σ 4)) hx hb (hG.Z Z (SS.ov Y).1) hS hown (hts _ q169) (fun _ h9 => h9) dX3_values_0 ?_
  refine a_clone (ad := "[LBladeAlgebra$One;") (x := (10, .inr (.inr (.inr (.inr (fun k => some (σ (30 + k)))))))) hx hb (hml.trans hl.1.symm) hown (hts _ q171) (hts _ q172) (hts _ q160) (hts _ q161) (hts _ q173) (va_Nw.warmC hG.1 (va_Nw.of rfl (Z.2.1 _ q174))) hK (hR0.up hS) hP hD hS hA 0 7 rfl (hR0.2 0 _ rfl) rfl (nm_obj (hK.2 7 _ rfl).2) fit_ref (Nat.le_of_ble_eq_true rfl) (by decide) (by first | decide | omega) (by first | exact Nat.le_of_ble_eq_true rfl | decide | omega) dX3_values_3 (fun cl_1 H hP hD hS => ?_)
  have hP : va_P (dC, dI) vwCl [(cl_1, .inl (dA 7, 10, .inr (.inr (.inr (.inr (fun k => some (σ (30 + k))))))))] H := hP
  have hD : va_D A [(cl_1, .inl (dA 7, 10, .inr (.inr (.inr (.inr (fun k => some (σ (30 + k))))))))] := hD
  refine va_castA hx hb hown (hts _ q176) hP 0 rfl (nm_obj (hK.2 7 _ rfl).2) dX3_values_6 ?_
  subst hQe
  refine W.widen (k := 1) (n := 10) (by first | decide | omega) (by first | decide | omega) ?_
  exact W.aret (v := .ref cl_1) hx hb hr (Or.inr ⟨_, rfl⟩) (Or.inr ⟨_, rfl⟩) (fun tz ht hW => ⟨⟨(), cl_1, rfl, trivial, B1r_at ht (hP.sub [0] rfl) (hD.sub [0] (by decide) rfl) trivial⟩, hS.F ht⟩) hS.2.2 dX3_values_9
