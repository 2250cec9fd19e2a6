theorem aN_lN9 {n : Nat} (h : n < 2 ^ 63) : aN (lN n) = n := by unfold aN; rw [pk_lT h]; rfl
theorem gA_gcd {u : Int64} {f : Nat → Int64} {k : Nat} (h : gA u f k < 2 ^ 63) : gcdL (lN (gA u f k)) (f k) = lN (gA u f (k + 1)) := by
  unfold gcdL; rw [aN_lN h]; rfl
/-- a row divided, place after place -/
def dvS (f : Nat → Int64) (g : Int64) (k : Nat) : Nat → Int64 := fun j => if j < k then f j / g else f j
theorem dvS_0 (f : Nat → Int64) (g : Int64) : dvS f g 0 = f := by funext j; unfold dvS; rw [if_neg (by omega)]
theorem dvS_s {f : Nat → Int64} {g : Int64} {k : Nat} : vp_updL (dvS f g k) k (dvS f g k k / g) = dvS f g (k + 1) := by
  funext j
  by_cases e : j = k
  · subst e; rw [pk_uLs]; unfold dvS; rw [if_neg (by omega), if_pos (by omega)]
  · rw [pk_uLn e]; unfold dvS
    by_cases h : j < k
    · rw [if_pos h, if_pos (by omega)]
    · rw [if_neg h, if_neg (by omega)]
theorem dvS_at {u : Int64} {f : Nat → Int64} {j : Nat} (h : j < 32) : redS u f (j + 1) = dvS f (lN (gA u f 32)) 32 j := by
  unfold dvS redS
  rw [if_pos h, if_neg (by omega)]; rfl
set_option maxHeartbeats 4000000 in
theorem x6_init2 {l : Launch} {dC : Nat → ClassId} {dI : Nat → Nat → Nat} {dA : Nat → ClassId} {s0 : State} {b0 : Addr} (Z : Z0 l dC dI dA s0 b0) (A : Nat → Prop) (sz : Nat) (hA : ∀ q : Nat, sz ≤ q → A q) (ma mr : Nat) (u0 : Int64) : Met l yX6_init (ws_ yX6_init cX6_init 4 none) ({ frames := 2, cells := 0, slots := 0, locals := 120 } : Room) (gP [.ref ma, .ref mr, .long u0] s0 A (fun H => H.size = sz ∧ va_P (dC, dI) vwCl [(ma, .inr (0, [.null, .long 0]))] H ∧ va_D A [(ma, .inr (0, [.null, .long 0]))])) (va_Qv (S := Unit) (fun _ => True) (B1 (dC, dI) A (fun _ => [(ma, .inr (0, [.ref mr, .long u0]))]) (fun _ _ => True)) A) 0 0 A := by
  refine Met.ofW (cc := cX6_init) (maxL := 4) (ret := none) (by decide) rfl ?_
  intro p e s m args below meth c s₁ B hml hv
  obtain ⟨hav, hG, hsz, hP, hD⟩ := hv
  have hx := B.exec
  have hb := B.bytes
  have hr := B.returns
  have hts := atoms_spec (ws := (ws_ yX6_init cX6_init 4 none)) B.pre
  have hts : ∀ w ∈ lw_all, w.before _ s = true := fun w h => hts w (List.mem_cons_of_mem _ h)
  have hown : s.vm.findClass RX6 = some m.cls := findClass_of_methodNamed B.named
  have hlocks := B.notSynchronized
  have hK := hG.K Z
  have hin : meth.name = "<init>" := (name_of_methodNamed B.named B.method).1
  subst hsz
  have hS : va_S A s.heap s.heap [] := va_S.rf
  have hl := lv_entry ([.ref ma, .ref mr, .long u0]) (n := 4) (Nat.le_of_ble_eq_true rfl)
  rw [show entryFrame m args 4 = entryFrame m ([.ref ma, .ref mr, .long u0] : List Value).toArray 4 from by rw [hav], lg_entry_eq]
  generalize (lg_sl ([.ref ma, .ref mr, .long u0]) ++ List.replicate (4 - (lg_sl ([.ref ma, .ref mr, .long u0])).length) Slot.unset).toArray = ls at hl ⊢
  have hl : lv_has ls 4 [(0, .ref ma), (1, .ref mr), (2, .long u0)] := hl
  generalize hQe : MQ below _ _ s _ _ _ = Q
  change W p l e ({ frames := 2, cells := 0, slots := 0, locals := 120 } : Room) s m args below meth c s.heap [] 0 0 Q (F0 m 0 ls [])
  refine lv_aload_n hx hb dX6_init_0 rfl (lv_at hl 0 rfl) ?_
  refine W.objInit hx hb hown (hts _ q548) (hts _ q151) (hts _ q152) rfl (by rw [hml]; exact hl.1) rfl dX6_init_1 (Nat.le_of_ble_eq_true rfl) (Nat.le_of_ble_eq_true rfl) ?_
  refine lv_aload_n hx hb dX6_init_4 rfl (lv_at hl 0 rfl) ?_
  refine lv_aload_n hx hb dX6_init_5 rfl (lv_at hl 1 rfl) ?_
  refine va_putF (D := (dC, dI)) (ci := 0) (v := .ref mr) (ty := (tyX6 0)) (C := RX6) (T := TX6) (N := 2) hx hb hts in_X6 tyX6 tyX6_ok nmX6 hown hK hP hD hS 0 rfl rfl 0 (by decide) (hts _ q549) (fun _ h9 => h9) rfl hin rfl (by decide +kernel) rfl rfl (Nat.le_of_ble_eq_true rfl) dX6_init_6 (fun H locs hP hD hS => ?_)
  have hP : va_P (dC, dI) vwCl [(ma, .inr (0, [.ref mr, .long 0]))] H := hP
  have hD : va_D A [(ma, .inr (0, [.ref mr, .long 0]))] := hD
  refine lv_aload_n hx hb dX6_init_9 rfl (lv_at hl 0 rfl) ?_
  refine lv_lload_n hx hb dX6_init_10 rfl (lv_at hl 2 rfl) ?_
  refine va_putF (D := (dC, dI)) (ci := 0) (v := .long u0) (ty := .long) (C := RX6) (T := TX6) (N := 2) hx hb hts in_X6 tyX6 tyX6_ok nmX6 hown hK hP hD hS 0 rfl rfl 1 (by decide) (hts _ q553) (fun _ h9 => h9) rfl hin rfl (by decide +kernel) rfl rfl (Nat.le_of_ble_eq_true rfl) dX6_init_11 (fun H locs hP hD hS => ?_)
  have hP : va_P (dC, dI) vwCl [(ma, .inr (0, [.ref mr, .long u0]))] H := hP
  have hD : va_D A [(ma, .inr (0, [.ref mr, .long u0]))] := hD
  subst hQe
  exact W.vret hx hb hr (fun tz ht hW => ⟨⟨(), rfl, trivial, B1_at ht (hP.sub [0] rfl) (hD.sub [0] (by decide) rfl) trivial⟩, hS.F ht⟩) hS.2.2 dX6_init_14
set_option maxHeartbeats 4000000 in
theorem x6_reduced {l : Launch} {dC : Nat → ClassId} {dI : Nat → Nat → Nat} {dA : Nat → ClassId} {s0 : State} {b0 : Addr} (Z : Z0 l dC dI dA s0 b0) (A : Nat → Prop) (sz : Nat) (hA : ∀ q : Nat, sz ≤ q → A q) (ma mr ar : Nat) (M : MV) (f : Nat → Int64) (hu : MSm M) (hfm : ∀ j, j < 32 → f j ≠ Int64.minValue) : Met l yX6_reduced (ws_ yX6_reduced cX6_reduced 5 (some (.object "BladeAlgebra$Multi"))) ({ frames := 3, cells := 1, slots := 2, locals := 180 } : Room) (gP [.ref ma, .ref ar] s0 A (fun H => H.size = sz ∧ va_P (dC, dI) vwCl [(ar, .inl (dA 1, 32, .inr (.inl f)))] H ∧ va_D A [(ar, .inl (dA 1, 32, .inr (.inl f)))] ∧ RO A (dC, dI) [(ma, .inr (0, [.ref mr, .long (M 0)])), (mr, .inl (dA 1, 32, .inr (.inl (fun j => M (j + 1)))))] H)) (va_Qr (S := Unit) (fun _ => True) (B1r (dC, dI) A (fun _ q => MA dA q ar (redS (M 0) f)) (fun _ _ _ => True)) A) 1 2 A := by
  refine Met.ofW (cc := cX6_reduced) (maxL := 5) (ret := (some (.object "BladeAlgebra$Multi"))) (by decide) rfl ?_
  intro p e s m args below meth c s₁ B hml hv
  obtain ⟨hav, hG, hsz, hP, hD, hR0⟩ := hv
  have hx := B.exec
  have hb := B.bytes
  have hr := B.returns
  have hts := atoms_spec (ws := (ws_ yX6_reduced cX6_reduced 5 (some (.object "BladeAlgebra$Multi")))) B.pre
  have hts : ∀ w ∈ lw_all, w.before _ s = true := fun w h => hts w (List.mem_cons_of_mem _ h)
  have hown : s.vm.findClass RX6 = some m.cls := findClass_of_methodNamed B.named
  have hlocks := B.notSynchronized
  have hK := hG.K Z
  subst hsz
  have hS : va_S A s.heap s.heap [] := va_S.rf
  have hl := lv_entry ([.ref ma, .ref ar]) (n := 5) (Nat.le_of_ble_eq_true rfl)
  rw [show entryFrame m args 5 = entryFrame m ([.ref ma, .ref ar] : List Value).toArray 5 from by rw [hav], lg_entry_eq]
  generalize (lg_sl ([.ref ma, .ref ar]) ++ List.replicate (5 - (lg_sl ([.ref ma, .ref ar])).length) Slot.unset).toArray = ls at hl ⊢
  have hl : lv_has ls 5 [(0, .ref ma), (1, .ref ar)] := hl
  generalize hQe : MQ below _ _ s _ _ _ = Q
  change W p l e ({ frames := 3, cells := 1, slots := 2, locals := 180 } : Room) s m args below meth c s.heap [] 0 0 Q (F0 m 0 ls [])
  have hg0 : ∀ n, 0 < gA (M 0) f n := fun n => gA_pos (aN_pos hu.1) f n
  have hg1 : ∀ n, gA (M 0) f n < 2 ^ 63 := fun n => Nat.lt_of_le_of_lt (gA_le (aN_pos hu.1) f n) (aN_lt (ne_min_of (MSm.u hu) (by decide)))
  have hgz : ¬ lN (gA (M 0) f 32) = 0 := lN_nz (hg0 32) (hg1 32)
  refine lv_aload_n hx hb dX6_reduced_0 rfl (lv_at hl 0 rfl) ?_
  refine va_get (D := (dC, dI)) (ci := 0) (v := .long (M 0)) (C := RX6) (T := TX6) (N := 2) hx hb hts in_X6 hown hK (hR0.up hS) 0 rfl rfl 1 (by decide) (hts _ q553) (fun _ h9 => h9) rfl dX6_reduced_1 ?_
  refine lv_lstore_n (lv' := [(2, .long (M 0)), (0, .ref ma), (1, .ref ar)]) hx hb dX6_reduced_4 rfl hl (by decide) rfl (fun ls hl => ?_)
  refine lv_iconst (v := nI 0) hx hb dX6_reduced_5 (by decide) ?_
  refine lv_istore (lv' := [(4, .int (nI 0)), (2, .long (M 0)), (0, .ref ma), (1, .ref ar)]) hx hb dX6_reduced_6 hl (by decide) rfl (fun ls hl => ?_)
  have hl : lv_has ls 5 [(4, .int (nI 0)), (2, .long (lN (gA (M 0) f 0))), (0, .ref ma), (1, .ref ar)] := by rw [show lN (gA (M 0) f 0) = M 0 from lN_aN hu.1]; exact hl
  have loop_1 : ∀ (n9_1 : Nat) (k : Nat) (H : Heap) (locs : List Loc) (ls : Array Slot), 32 - k < n9_1 → (k ≤ 32) → va_P (dC, dI) vwCl [(ar, .inl (dA 1, 32, .inr (.inl f)))] H → va_D A [(ar, .inl (dA 1, 32, .inr (.inl f)))] → va_S A s.heap H locs → lv_has ls 5 [(0, .ref ma), (1, .ref ar), (2, .long (lN (gA (M 0) f k))), (4, .int (nI k))] → W p l e ({ frames := 3, cells := 1, slots := 2, locals := 180 } : Room) s m args below meth c H locs 0 0 Q (F0 m 8 ls []) := by
    intro n9_1
    induction n9_1 with
    | zero => intro k H locs ls hm_1; exact absurd hm_1 (Nat.not_lt_zero _)
    | succ n9_1 ih_1 =>
      intro k H locs ls hm_1 hk9 hP hD hS hl
      refine lv_iload hx hb dX6_reduced_8 (lv_at hl 3 rfl) ?_
      refine lv_bipush (v := nI 32) hx hb dX6_reduced_10 (by decide) ?_
      refine lv_icmp_ge (tgt := 30) hx hb dX6_reduced_12 (by decide) (fun c_12 => ?_) (fun c_12 => ?_)
      · have c_12 : 32 ≤ k := (nI_leI (a := 32) (b := k) (by omega) (by omega)).mp c_12
        obtain rfl : k = 32 := by omega
        refine lv_iconst (v := nI 0) hx hb dX6_reduced_30 (by decide) ?_
        refine lv_istore (lv' := [(4, .int (nI 0)), (0, .ref ma), (1, .ref ar), (2, .long (lN (gA (M 0) f 32)))]) hx hb dX6_reduced_31 hl (by decide) rfl (fun ls hl => ?_)
        have e9 : (f : Nat → Int64) = (dvS f (lN (gA (M 0) f 32)) 0) := (dvS_0 _ _).symm
        rw [e9] at hP hD; clear e9
        have loop_2 : ∀ (n9_2 : Nat) (j : Nat) (H : Heap) (locs : List Loc) (ls : Array Slot), 32 - j < n9_2 → (j ≤ 32) → va_P (dC, dI) vwCl [(ar, .inl (dA 1, 32, .inr (.inl (dvS f (lN (gA (M 0) f 32)) j))))] H → va_D A [(ar, .inl (dA 1, 32, .inr (.inl (dvS f (lN (gA (M 0) f 32)) j))))] → va_S A s.heap H locs → lv_has ls 5 [(0, .ref ma), (1, .ref ar), (2, .long (lN (gA (M 0) f 32))), (4, .int (nI j))] → W p l e ({ frames := 3, cells := 1, slots := 2, locals := 180 } : Room) s m args below meth c H locs 0 0 Q (F0 m 33 ls []) := by
          intro n9_2
          induction n9_2 with
          | zero => intro j H locs ls hm_2; exact absurd hm_2 (Nat.not_lt_zero _)
          | succ n9_2 ih_2 =>
            intro j H locs ls hm_2 hj9 hP hD hS hl
            refine lv_iload hx hb dX6_reduced_33 (lv_at hl 3 rfl) ?_
            refine lv_bipush (v := nI 32) hx hb dX6_reduced_35 (by decide) ?_
            refine lv_icmp_ge (tgt := 54) hx hb dX6_reduced_37 (by decide) (fun c_37 => ?_) (fun c_37 => ?_)
            · have c_37 : 32 ≤ j := (nI_leI (a := 32) (b := j) (by omega) (by omega)).mp c_37
              obtain rfl : j = 32 := by omega
              have hP := P_L hP 0 (fun j => redS (M 0) f (j + 1)) rfl (fun j hj => (dvS_at hj).symm)
              have hD := va_D.set (e := .inl (dA 1, 32, .inr (.inl (fun j => redS (M 0) f (j + 1))))) hD (p := 0) rfl
              have hP : va_P (dC, dI) vwCl [(ar, .inl (dA 1, 32, .inr (.inl (fun j => redS (M 0) f (j + 1)))))] H := hP
              have hD : va_D A [(ar, .inl (dA 1, 32, .inr (.inl (fun j => redS (M 0) f (j + 1)))))] := hD
              refine va_new (D := (dC, dI)) (ci := 0) (fs := [.null, .long 0]) (C := RX6) (T := TX6) (N := 2) hx hb hts in_X6 tyX6 tyX6_ok hown (hts _ q543) (hts _ q544) (hts _ q102) hK hP hD hS hA rfl (fun j hj => by rcases (show j = 0 ∨ j = 1 by omega) with rfl | rfl <;> rfl) (by first | decide | omega) (by first | decide | omega) dX6_reduced_54 (fun nw_3 H hP hD hS => ?_)
              have hP : va_P (dC, dI) vwCl [(ar, .inl (dA 1, 32, .inr (.inl (fun j => redS (M 0) f (j + 1))))), (nw_3, .inr (0, [.null, .long 0]))] H := hP
              have hD : va_D A [(ar, .inl (dA 1, 32, .inr (.inl (fun j => redS (M 0) f (j + 1))))), (nw_3, .inr (0, [.null, .long 0]))] := hD
              refine lv_dup hx hb dX6_reduced_57 rfl ?_
              refine lv_aload_n hx hb dX6_reduced_58 rfl (lv_at hl 1 rfl) ?_
              refine lv_aload_n hx hb dX6_reduced_59 rfl (lv_at hl 0 rfl) ?_
              refine va_get (D := (dC, dI)) (ci := 0) (v := .long (M 0)) (C := RX6) (T := TX6) (N := 2) hx hb hts in_X6 hown hK (hR0.up hS) 0 rfl rfl 1 (by decide) (hts _ q553) (fun _ h9 => h9) rfl dX6_reduced_60 ?_
              refine lv_lload_n hx hb dX6_reduced_63 rfl (lv_at hl 2 rfl) ?_
              refine lv_ldiv hx hb dX6_reduced_64 hgz ?_
              have hF9 := va_free (wc := [(nw_3, .inr (0, [.null, .long 0]))]) hD hS (fun q h => hA q h) [1] rfl
              refine c_v (wr := [(ar, .inl (dA 1, 32, .inr (.inl (fun j => redS (M 0) f (j + 1)))))]) (va_runI (As := [.ref ar, .long ((M 0) / (lN (gA (M 0) f 32)))]) (rest := [.ref nw_3]) ⟨hx, hb, hml, hown, hts⟩ (x6_init2 Z (va_A [(nw_3, .inr (0, [.null, .long 0]))] H.size) H.size (fun q h => Or.inr h) nw_3 ar ((M 0) / (lN (gA (M 0) f 32)))) (cwI 2 hts (lw_meth q547) rfl rfl rfl (hts _ q102) (hts _ q545) (hts _ q546) rfl (by decide +kernel) ⟨Nat.le_of_ble_eq_true rfl, Nat.le_of_ble_eq_true rfl⟩) (gP_S hG hS (fun q _ h => hF9 q h) ⟨rfl, (hP.sub (ws' := [(nw_3, .inr (0, [.null, .long 0]))]) [1] rfl), (hD.sub (ws' := [(nw_3, .inr (0, [.null, .long 0]))]) [1] (by decide) rfl).self⟩) rfl rfl hl.1 rfl (lv_room (Nat.le_of_ble_eq_true rfl)) dX6_reduced_65 ⟨by first | decide | omega, by first | decide | omega⟩) hP hD hS hA [1] [0] rfl rfl (by decide) (by decide) (fun u9 H locs hq hX hz hk hP hD hS => ?_)
              have hP : va_P (dC, dI) vwCl [(ar, .inl (dA 1, 32, .inr (.inl (fun j => redS (M 0) f (j + 1))))), (nw_3, .inr (0, [.ref ar, .long ((M 0) / (lN (gA (M 0) f 32)))]))] H := hP
              have hD : va_D A [(ar, .inl (dA 1, 32, .inr (.inl (fun j => redS (M 0) f (j + 1))))), (nw_3, .inr (0, [.ref ar, .long ((M 0) / (lN (gA (M 0) f 32)))]))] := hD
              subst hQe
              refine W.widen (k := 1) (n := 2) (by first | decide | omega) (by first | decide | omega) ?_
              exact W.aret (v := .ref nw_3) hx hb hr (Or.inl ⟨_, rfl⟩) (Or.inr ⟨_, rfl⟩) (fun tz ht hW => ⟨⟨(), nw_3, rfl, trivial, B1r_at ht (hP.sub [1, 0] rfl) (hD.sub [1, 0] (by decide) rfl) trivial⟩, hS.F ht⟩) hS.2.2 dX6_reduced_68
            · have c_37 : ¬ 32 ≤ j := fun h => c_37 ((nI_leI (a := 32) (b := j) (by omega) (by omega)).mpr h)
              refine lv_aload_n hx hb dX6_reduced_40 rfl (lv_at hl 1 rfl) ?_
              refine lv_iload hx hb dX6_reduced_41 (lv_at hl 3 rfl) ?_
              refine lv_dup2_11 hx hb dX6_reduced_43 rfl rfl ?_
              refine a_lald hx hb hK hP 0 1 rfl rfl (by omega) (by omega) dX6_reduced_44 ?_
              refine lv_lload_n hx hb dX6_reduced_45 rfl (lv_at hl 2 rfl) ?_
              refine lv_ldiv hx hb dX6_reduced_46 hgz ?_
              refine a_last hx hb hK hP hD hS 0 1 rfl rfl (by omega) (by omega) dX6_reduced_47 (fun H locs hP hD hS => ?_)
              have hP : va_P (dC, dI) vwCl [(ar, .inl (dA 1, 32, .inr (.inl (vp_updL (dvS f (lN (gA (M 0) f 32)) j) j (((dvS f (lN (gA (M 0) f 32)) j) j) / (lN (gA (M 0) f 32)))))))] H := hP
              have hD : va_D A [(ar, .inl (dA 1, 32, .inr (.inl (vp_updL (dvS f (lN (gA (M 0) f 32)) j) j (((dvS f (lN (gA (M 0) f 32)) j) j) / (lN (gA (M 0) f 32)))))))] := hD
              have e9 : (vp_updL (dvS f (lN (gA (M 0) f 32)) j) j (((dvS f (lN (gA (M 0) f 32)) j) j) / (lN (gA (M 0) f 32))) : Nat → Int64) = (dvS f (lN (gA (M 0) f 32)) (j + 1)) := dvS_s
              rw [e9] at hP hD; clear e9
              refine lv_iinc (v := nI (j + 1)) (lv' := [(4, .int (nI (j + 1))), (0, .ref ma), (1, .ref ar), (2, .long (lN (gA (M 0) f 32)))]) hx hb dX6_reduced_48 hl (k := 3) rfl (by exact nI_add _ 1) (by decide) rfl (fun ls hl => ?_)
              refine lv_goto (tgt := 33) hx hb dX6_reduced_51 (by decide) ?_
              exact ih_2 (j + 1) H locs ls (by omega) (by omega) (hP.sub [0] rfl) (hD.sub [0] (by decide) rfl) hS (lv_sub hl [1, 2, 3, 0] rfl)
        exact loop_2 _ 0 H locs ls (Nat.lt_succ_self _) (by omega) hP hD hS (lv_sub hl [1, 2, 3, 0] rfl)
      · have c_12 : ¬ 32 ≤ k := fun h => c_12 ((nI_leI (a := 32) (b := k) (by omega) (by omega)).mpr h)
        refine lv_lload_n hx hb dX6_reduced_15 rfl (lv_at hl 2 rfl) ?_
        refine lv_aload_n hx hb dX6_reduced_16 rfl (lv_at hl 1 rfl) ?_
        refine lv_iload hx hb dX6_reduced_17 (lv_at hl 3 rfl) ?_
        refine a_lald hx hb hK hP 0 1 rfl rfl (by omega) (by omega) dX6_reduced_19 ?_
        refine s_l (va_runSN (As := [.long (lN (gA (M 0) f k)), .long (f k)]) (rest := []) ⟨hx, hb, hml, hown, hts⟩ (x1_common Z (lN (gA (M 0) f k)) (f k) (lN_min (hg1 k)) (hfm k (by omega))) ⟨va_cnB 2 hts (lw_meth q515) rfl rfl rfl (va_Nw.warmM hG.1 (va_Nw.of rfl (Z.2.1 _ q513))) (hts _ q96) (by decide +kernel) ⟨Nat.le_of_ble_eq_true rfl, Nat.le_of_ble_eq_true rfl⟩, hts _ q514, trivial⟩ (gP_S hG hS (fun q _ h => h.elim) trivial) rfl rfl hl.1 rfl (lv_room (Nat.le_of_ble_eq_true rfl)) dX6_reduced_20 ⟨by first | decide | omega, by first | decide | omega⟩) ?_
        refine e_l (y := lN (gA (M 0) f (k + 1))) (gA_gcd (hg1 k)) ?_
        refine lv_lstore_n (lv' := [(2, .long (lN (gA (M 0) f (k + 1)))), (0, .ref ma), (1, .ref ar), (4, .int (nI k))]) hx hb dX6_reduced_23 rfl hl (by decide) rfl (fun ls hl => ?_)
        refine lv_iinc (v := nI (k + 1)) (lv' := [(4, .int (nI (k + 1))), (2, .long (lN (gA (M 0) f (k + 1)))), (0, .ref ma), (1, .ref ar)]) hx hb dX6_reduced_24 hl (k := 3) rfl (by exact nI_add _ 1) (by decide) rfl (fun ls hl => ?_)
        refine lv_goto (tgt := 8) hx hb dX6_reduced_27 (by decide) ?_
        exact ih_1 (k + 1) H locs ls (by omega) (by omega) (hP.sub [0] rfl) (hD.sub [0] (by decide) rfl) hS (lv_sub hl [2, 3, 1, 0] rfl)
  exact loop_1 _ 0 s.heap [] ls (Nat.lt_succ_self _) (by omega) hP hD hS (lv_sub hl [2, 3, 1, 0] rfl)
