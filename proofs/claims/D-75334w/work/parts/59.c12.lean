theorem oneS_sm {k p q r : Nat} (hn : p + q + r ≤ 5) {M C : MV} (sM : MSm M) (e : oneS k p q r M = (nI 0, some C)) : MSm C := by
  unfold oneS at e
  split at e
  · unfold invS sqS at e
    cases h1 : mulS 2 p q r M (revS p q r M) with
    | none => rw [h1] at e; cases e
    | some S =>
      rw [h1] at e
      dsimp only at e
      split at e
      · cases e
      · rename_i hn2
        have hS := mulS_sm sM (trnS_sm hn sM) h1
        rw [Bool.not_eq_false] at hn2
        cases h2 : scaS (S 0) (S 1) (revS p q r M) with
        | none => rw [h2] at e; cases e
        | some T =>
          rw [h2] at e
          cases e
          exact scaS_sm (hS.c (j := 0) (by decide)) (isNumB_1 hn2) (trnS_sm hn sM) h2
  · split at e
    · cases e
    · cases e; exact trnS_sm hn sM
def xFs (xa : Nat → Nat) (tl : Nat) (ec ep : Int32) : List Value := [.ref (xa 1), .ref (xa 2), .ref (xa 3), .ref (xa 4), .ref (xa 5), .int (nI tl), .int ec, .int ep, .ref (xa 6)]
/-- the first n of a row of numbers are registers -/
def rgA (f : Nat → Int32) : Nat → Bool
  | 0 => true
  | k + 1 => rgA f k && rgB (f k)
theorem rgA_f {f : Nat → Int32} {a b : Nat} (h : rgA f a = false) (hm : a ≤ b) : rgA f b = false := by
  induction b with
  | zero => rw [← Nat.le_zero.mp hm]; exact h
  | succ b ih =>
    by_cases e : a = b + 1
    · rw [← e]; exact h
    · show (rgA f b && _) = false
      rw [ih (by omega)]; rfl
theorem rgs1 {t : Int32} : rgA (upd (fun _ => 0) 0 t) 1 = rgB t := rfl
theorem rgs2 {t a : Int32} : rgA (upd (upd (fun _ => 0) 0 t) 1 a) 2 = (rgB t && rgB a) := rfl
theorem rgs3 {t a b : Int32} : rgA (upd (upd (upd (fun _ => 0) 0 t) 1 a) 2 b) 3 = (rgB t && rgB a && rgB b) := rfl
theorem two_run {p : Program} {l : Launch} {e : Env} {R : Room} {s : State} {m : MethodId} {args : Array Value} {below : List Frame} {meth : Method} {c : Code} {H : Heap} {locs : List Loc} {cells slots : Nat} {dC : Nat → ClassId} {dI : Nat → Nat → Nat} {dA : Nat → ClassId} {s0 : State} {b0 : Addr} (Z : Z0 l dC dI dA s0 b0) {σ : Nat → Nat} (Y : SS (dC, dI) dA σ s0) {A : Nat → Prop} (hG : Gd s0 A s s.heap) (hS : va_S A s.heap H locs) {index nL pc : Nat} {own : String} {cc : ByteArray} (S : CallFix p m c cc nL s args lw_all own) {k : Nat} (hk : k < 9) (ga sg : Nat) (sr : Nat → Nat) (p0 q0 r0 ma mr : Nat) (M : MV) (mb nr : Nat) (N : MV) (sM : MSm M) (sN : MSm N) (f1 : RO (va_A [] H.size) (dC, dI) (MA dA ma mr M) H) (f2 : RO (va_A [] H.size) (dC, dI) (MA dA mb nr N) H) (f3 : AG (va_A [] H.size) (dC, dI) dA ga sg sr p0 q0 r0 H) (hlink : Cond.methodLink own index ⟨"BladeAlgebra$Two", "of", "(LBladeAlgebra$Algebra;LBladeAlgebra$Multi;LBladeAlgebra$Multi;)LBladeAlgebra$Multi;"⟩ ∈ lw_all) {ls : Array Slot} {rest : List Value} (hsize : ls.size = nL) (hW : (rest.map fun v => v.category).sum ≤ 8) (hdg : decode cc pc = .ok (.invokevirtual index, 3)) (hR : 9 + 1 ≤ R.frames ∧ 8 + (4 + 11) + 540 ≤ R.locals) (hf : cells + 8 ≤ R.cells ∧ slots + 152 ≤ R.slots) : vx_Run p l e R s m args below meth c H locs cells slots 8 152 (F0 m pc ls (.ref mb :: .ref ma :: .ref ga :: .ref (σ (20 + k)) :: rest)) rest (va_Qr (S := Nat × MV) (fun u => cmbS k p0 q0 r0 M N = some u.2) (B1r (dC, dI) (va_A [] H.size) (fun u q => MA dA q u.1 u.2) (fun _ _ _ => True)) (va_A [] H.size) (Value.ref (σ (20 + k)) :: [.ref ga, .ref ma, .ref mb]).toArray) (vx_X (S := Unit) (fun _ => cmbS k p0 q0 r0 M N = none) (fun _ E _ _ => E = "BladeAlgebra$Unfit") (va_A [] H.size)) (va_A [] H.size) := by
  match k, hk with
  | 0, _ => exact vx_runA (x := ⟨"BladeAlgebra$Two", "of", "(LBladeAlgebra$Algebra;LBladeAlgebra$Multi;LBladeAlgebra$Multi;)LBladeAlgebra$Multi;"⟩) (owner := "BladeAlgebra$Two") (C := "BladeAlgebra$Two$1") (As := [.ref ga, .ref ma, .ref mb]) (n := 3) S (xt0 Z (va_A [] H.size) H.size (fun q h => Or.inr h) Y (σ (20 + 0)) ga sg sr p0 q0 r0 ma mr M mb nr N sM sN) ⟨rfl, rfl⟩ hR q639 hlink q636 (va_Nw.warmD hG.1 (va_Nw.of rfl (Z.2.1 _ q635))) q637 q638 (by decide +kernel) (gP_V (Gd.O hG (SS.tw Y 0 (by decide)).2 hS) hG hS (fun q hq h => absurd hq (Nat.not_lt.mpr (va_A0 h))) ⟨rfl, f1, f2, f3⟩) rfl rfl hsize rfl (lv_room hW) hdg hf
  | 1, _ => exact vx_runA (x := ⟨"BladeAlgebra$Two", "of", "(LBladeAlgebra$Algebra;LBladeAlgebra$Multi;LBladeAlgebra$Multi;)LBladeAlgebra$Multi;"⟩) (owner := "BladeAlgebra$Two") (C := "BladeAlgebra$Two$2") (As := [.ref ga, .ref ma, .ref mb]) (n := 3) S (xt1 Z (va_A [] H.size) H.size (fun q h => Or.inr h) Y (σ (20 + 1)) ga sg sr p0 q0 r0 ma mr M mb nr N sM sN) ⟨rfl, rfl⟩ hR q646 hlink q636 (va_Nw.warmD hG.1 (va_Nw.of rfl (Z.2.1 _ q635))) q644 q645 (by decide +kernel) (gP_V (Gd.O hG (SS.tw Y 1 (by decide)).2 hS) hG hS (fun q hq h => absurd hq (Nat.not_lt.mpr (va_A0 h))) ⟨rfl, f1, f2, f3⟩) rfl rfl hsize rfl (lv_room hW) hdg hf
  | 2, _ => exact vx_runA (x := ⟨"BladeAlgebra$Two", "of", "(LBladeAlgebra$Algebra;LBladeAlgebra$Multi;LBladeAlgebra$Multi;)LBladeAlgebra$Multi;"⟩) (owner := "BladeAlgebra$Two") (C := "BladeAlgebra$Two$3") (As := [.ref ga, .ref ma, .ref mb]) (n := 3) S (xt2 Z (va_A [] H.size) H.size (fun q h => Or.inr h) Y (σ (20 + 2)) ga sg sr p0 q0 r0 ma mr M mb nr N sM sN) ⟨rfl, rfl⟩ hR q650 hlink q636 (va_Nw.warmD hG.1 (va_Nw.of rfl (Z.2.1 _ q635))) q648 q649 (by decide +kernel) (gP_V (Gd.O hG (SS.tw Y 2 (by decide)).2 hS) hG hS (fun q hq h => absurd hq (Nat.not_lt.mpr (va_A0 h))) ⟨rfl, f1, f2, f3⟩) rfl rfl hsize rfl (lv_room hW) hdg hf
  | 3, _ => exact vx_runA (x := ⟨"BladeAlgebra$Two", "of", "(LBladeAlgebra$Algebra;LBladeAlgebra$Multi;LBladeAlgebra$Multi;)LBladeAlgebra$Multi;"⟩) (owner := "BladeAlgebra$Two") (C := "BladeAlgebra$Two$4") (As := [.ref ga, .ref ma, .ref mb]) (n := 3) S (xt3 Z (va_A [] H.size) H.size (fun q h => Or.inr h) Y (σ (20 + 3)) ga sg sr p0 q0 r0 ma mr M mb nr N sM sN) ⟨rfl, rfl⟩ hR q682 hlink q636 (va_Nw.warmD hG.1 (va_Nw.of rfl (Z.2.1 _ q635))) q680 q681 (by decide +kernel) (gP_V (Gd.O hG (SS.tw Y 3 (by decide)).2 hS) hG hS (fun q hq h => absurd hq (Nat.not_lt.mpr (va_A0 h))) ⟨rfl, f1, f2, f3⟩) rfl rfl hsize rfl (lv_room hW) hdg hf
  | 4, _ => exact vx_runA (x := ⟨"BladeAlgebra$Two", "of", "(LBladeAlgebra$Algebra;LBladeAlgebra$Multi;LBladeAlgebra$Multi;)LBladeAlgebra$Multi;"⟩) (owner := "BladeAlgebra$Two") (C := "BladeAlgebra$Two$5") (As := [.ref ga, .ref ma, .ref mb]) (n := 3) S (xt4 Z (va_A [] H.size) H.size (fun q h => Or.inr h) Y (σ (20 + 4)) ga sg sr p0 q0 r0 ma mr M mb nr N sM sN) ⟨rfl, rfl⟩ hR q688 hlink q636 (va_Nw.warmD hG.1 (va_Nw.of rfl (Z.2.1 _ q635))) q686 q687 (by decide +kernel) (gP_V (Gd.O hG (SS.tw Y 4 (by decide)).2 hS) hG hS (fun q hq h => absurd hq (Nat.not_lt.mpr (va_A0 h))) ⟨rfl, f1, f2, f3⟩) rfl rfl hsize rfl (lv_room hW) hdg hf
  | 5, _ => exact vx_runA (x := ⟨"BladeAlgebra$Two", "of", "(LBladeAlgebra$Algebra;LBladeAlgebra$Multi;LBladeAlgebra$Multi;)LBladeAlgebra$Multi;"⟩) (owner := "BladeAlgebra$Two") (C := "BladeAlgebra$Two$6") (As := [.ref ga, .ref ma, .ref mb]) (n := 3) S (xt5 Z (va_A [] H.size) H.size (fun q h => Or.inr h) Y (σ (20 + 5)) ga sg sr p0 q0 r0 ma mr M mb nr N sM sN) ⟨rfl, rfl⟩ hR q694 hlink q636 (va_Nw.warmD hG.1 (va_Nw.of rfl (Z.2.1 _ q635))) q692 q693 (by decide +kernel) (gP_V (Gd.O hG (SS.tw Y 5 (by decide)).2 hS) hG hS (fun q hq h => absurd hq (Nat.not_lt.mpr (va_A0 h))) ⟨rfl, f1, f2, f3⟩) rfl rfl hsize rfl (lv_room hW) hdg hf
  | 6, _ => exact vx_runA (x := ⟨"BladeAlgebra$Two", "of", "(LBladeAlgebra$Algebra;LBladeAlgebra$Multi;LBladeAlgebra$Multi;)LBladeAlgebra$Multi;"⟩) (owner := "BladeAlgebra$Two") (C := "BladeAlgebra$Two$7") (As := [.ref ga, .ref ma, .ref mb]) (n := 3) S (xt6 Z (va_A [] H.size) H.size (fun q h => Or.inr h) Y (σ (20 + 6)) ga sg sr p0 q0 r0 ma mr M mb nr N sM sN) ⟨rfl, rfl⟩ hR q700 hlink q636 (va_Nw.warmD hG.1 (va_Nw.of rfl (Z.2.1 _ q635))) q698 q699 (by decide +kernel) (gP_V (Gd.O hG (SS.tw Y 6 (by decide)).2 hS) hG hS (fun q hq h => absurd hq (Nat.not_lt.mpr (va_A0 h))) ⟨rfl, f1, f2, f3⟩) rfl rfl hsize rfl (lv_room hW) hdg hf
  | 7, _ => exact vx_runA (x := ⟨"BladeAlgebra$Two", "of", "(LBladeAlgebra$Algebra;LBladeAlgebra$Multi;LBladeAlgebra$Multi;)LBladeAlgebra$Multi;"⟩) (owner := "BladeAlgebra$Two") (C := "BladeAlgebra$Two$8") (As := [.ref ga, .ref ma, .ref mb]) (n := 3) S (xt7 Z (va_A [] H.size) H.size (fun q h => Or.inr h) Y (σ (20 + 7)) ga sg sr p0 q0 r0 ma mr M mb nr N sM sN) ⟨rfl, rfl⟩ hR q706 hlink q636 (va_Nw.warmD hG.1 (va_Nw.of rfl (Z.2.1 _ q635))) q704 q705 (by decide +kernel) (gP_V (Gd.O hG (SS.tw Y 7 (by decide)).2 hS) hG hS (fun q hq h => absurd hq (Nat.not_lt.mpr (va_A0 h))) ⟨rfl, f1, f2, f3⟩) rfl rfl hsize rfl (lv_room hW) hdg hf
  | 8, _ => exact vx_runA (x := ⟨"BladeAlgebra$Two", "of", "(LBladeAlgebra$Algebra;LBladeAlgebra$Multi;LBladeAlgebra$Multi;)LBladeAlgebra$Multi;"⟩) (owner := "BladeAlgebra$Two") (C := "BladeAlgebra$Two$9") (As := [.ref ga, .ref ma, .ref mb]) (n := 3) S (xt8 Z (va_A [] H.size) H.size (fun q h => Or.inr h) Y (σ (20 + 8)) ga sg sr p0 q0 r0 ma mr M mb nr N sM sN) ⟨rfl, rfl⟩ hR q723 hlink q636 (va_Nw.warmD hG.1 (va_Nw.of rfl (Z.2.1 _ q635))) q721 q722 (by decide +kernel) (gP_V (Gd.O hG (SS.tw Y 8 (by decide)).2 hS) hG hS (fun q hq h => absurd hq (Nat.not_lt.mpr (va_A0 h))) ⟨rfl, f1, f2, f3⟩) rfl rfl hsize rfl (lv_room hW) hdg hf
theorem one_run {p : Program} {l : Launch} {e : Env} {R : Room} {s : State} {m : MethodId} {args : Array Value} {below : List Frame} {meth : Method} {c : Code} {H : Heap} {locs : List Loc} {cells slots : Nat} {dC : Nat → ClassId} {dI : Nat → Nat → Nat} {dA : Nat → ClassId} {s0 : State} {b0 : Addr} (Z : Z0 l dC dI dA s0 b0) {σ : Nat → Nat} (Y : SS (dC, dI) dA σ s0) {A : Nat → Prop} (hG : Gd s0 A s s.heap) (hS : va_S A s.heap H locs) {index nL pc : Nat} {own : String} {cc : ByteArray} (S : CallFix p m c cc nL s args lw_all own) {k : Nat} (hk : k < 10) (ga sg : Nat) (sr : Nat → Nat) (p0 q0 r0 ma mr : Nat) (M : MV) (sM : MSm M) (pM : MSp (2 ^ (p0 + q0 + r0)) M) (f1 : RO (va_A [] H.size) (dC, dI) (MA dA ma mr M) H) (f3 : AG (va_A [] H.size) (dC, dI) dA ga sg sr p0 q0 r0 H) (hlink : Cond.methodLink own index ⟨"BladeAlgebra$One", "of", "(LBladeAlgebra$Algebra;LBladeAlgebra$Multi;)LBladeAlgebra$Multi;"⟩ ∈ lw_all) {ls : Array Slot} {rest : List Value} (hsize : ls.size = nL) (hW : (rest.map fun v => v.category).sum ≤ 8) (hdg : decode cc pc = .ok (.invokevirtual index, 3)) (hR : 9 + 1 ≤ R.frames ∧ 8 + (4 + 11) + 540 ≤ R.locals) (hf : cells + 9 ≤ R.cells ∧ slots + 150 ≤ R.slots) : vx_Run p l e R s m args below meth c H locs cells slots 9 150 (F0 m pc ls (.ref ma :: .ref ga :: .ref (σ (30 + k)) :: rest)) rest (va_Qr (S := Nat × MV) (fun u => oneS k p0 q0 r0 M = (nI 0, some u.2)) (B1r (dC, dI) (va_A [] H.size) (fun u q => MA dA q u.1 u.2) (fun _ _ _ => True)) (va_A [] H.size) (Value.ref (σ (30 + k)) :: [.ref ga, .ref ma]).toArray) (vx_X (S := Unit) (fun _ => True) (fun _ E _ _ => (E = "java/lang/IllegalStateException" ∧ oneS k p0 q0 r0 M = (nI 4, none)) ∨ (E = "BladeAlgebra$Unfit" ∧ oneS k p0 q0 r0 M = (nI 3, none))) (va_A [] H.size)) (va_A [] H.size) := by
  match k, hk with
  | 0, _ => exact vx_runA (x := ⟨"BladeAlgebra$One", "of", "(LBladeAlgebra$Algebra;LBladeAlgebra$Multi;)LBladeAlgebra$Multi;"⟩) (owner := "BladeAlgebra$One") (C := "BladeAlgebra$One$1") (As := [.ref ga, .ref ma]) (n := 2) S (xo0 Z (va_A [] H.size) H.size (fun q h => Or.inr h) Y (σ (30 + 0)) ga sg sr p0 q0 r0 ma mr M sM pM) ⟨rfl, rfl⟩ ⟨hR.1, by have := hR.2; show 8 + (3 + 11) + 540 ≤ _; omega⟩ q752 hlink q749 (va_Nw.warmD hG.1 (va_Nw.of rfl (Z.2.1 _ q748))) q750 q751 (by decide +kernel) (gP_V (Gd.O hG (SS.on Y 0 (by decide)).2 hS) hG hS (fun q hq h => absurd hq (Nat.not_lt.mpr (va_A0 h))) ⟨rfl, f1, f3⟩) rfl rfl hsize rfl (lv_room hW) hdg hf
  | 1, _ => exact vx_runA (x := ⟨"BladeAlgebra$One", "of", "(LBladeAlgebra$Algebra;LBladeAlgebra$Multi;)LBladeAlgebra$Multi;"⟩) (owner := "BladeAlgebra$One") (C := "BladeAlgebra$One$2") (As := [.ref ga, .ref ma]) (n := 2) S (xo1 Z (va_A [] H.size) H.size (fun q h => Or.inr h) Y (σ (30 + 1)) ga sg sr p0 q0 r0 ma mr M sM pM) ⟨rfl, rfl⟩ ⟨hR.1, by have := hR.2; show 8 + (3 + 11) + 540 ≤ _; omega⟩ q800 hlink q749 (va_Nw.warmD hG.1 (va_Nw.of rfl (Z.2.1 _ q748))) q798 q799 (by decide +kernel) (gP_V (Gd.O hG (SS.on Y 1 (by decide)).2 hS) hG hS (fun q hq h => absurd hq (Nat.not_lt.mpr (va_A0 h))) ⟨rfl, f1, f3⟩) rfl rfl hsize rfl (lv_room hW) hdg hf
  | 2, _ => exact vx_runA (x := ⟨"BladeAlgebra$One", "of", "(LBladeAlgebra$Algebra;LBladeAlgebra$Multi;)LBladeAlgebra$Multi;"⟩) (owner := "BladeAlgebra$One") (C := "BladeAlgebra$One$3") (As := [.ref ga, .ref ma]) (n := 2) S (xo2 Z (va_A [] H.size) H.size (fun q h => Or.inr h) Y (σ (30 + 2)) ga sg sr p0 q0 r0 ma mr M sM pM) ⟨rfl, rfl⟩ ⟨hR.1, by have := hR.2; show 8 + (3 + 11) + 540 ≤ _; omega⟩ q804 hlink q749 (va_Nw.warmD hG.1 (va_Nw.of rfl (Z.2.1 _ q748))) q802 q803 (by decide +kernel) (gP_V (Gd.O hG (SS.on Y 2 (by decide)).2 hS) hG hS (fun q hq h => absurd hq (Nat.not_lt.mpr (va_A0 h))) ⟨rfl, f1, f3⟩) rfl rfl hsize rfl (lv_room hW) hdg hf
  | 3, _ => exact vx_runA (x := ⟨"BladeAlgebra$One", "of", "(LBladeAlgebra$Algebra;LBladeAlgebra$Multi;)LBladeAlgebra$Multi;"⟩) (owner := "BladeAlgebra$One") (C := "BladeAlgebra$One$4") (As := [.ref ga, .ref ma]) (n := 2) S (xo3 Z (va_A [] H.size) H.size (fun q h => Or.inr h) Y (σ (30 + 3)) ga sg sr p0 q0 r0 ma mr M sM pM) ⟨rfl, rfl⟩ ⟨hR.1, by have := hR.2; show 8 + (3 + 11) + 540 ≤ _; omega⟩ q808 hlink q749 (va_Nw.warmD hG.1 (va_Nw.of rfl (Z.2.1 _ q748))) q806 q807 (by decide +kernel) (gP_V (Gd.O hG (SS.on Y 3 (by decide)).2 hS) hG hS (fun q hq h => absurd hq (Nat.not_lt.mpr (va_A0 h))) ⟨rfl, f1, f3⟩) rfl rfl hsize rfl (lv_room hW) hdg hf
  | 4, _ => exact vx_runA (x := ⟨"BladeAlgebra$One", "of", "(LBladeAlgebra$Algebra;LBladeAlgebra$Multi;)LBladeAlgebra$Multi;"⟩) (owner := "BladeAlgebra$One") (C := "BladeAlgebra$One$5") (As := [.ref ga, .ref ma]) (n := 2) S (xo4 Z (va_A [] H.size) H.size (fun q h => Or.inr h) Y (σ (30 + 4)) ga sg sr p0 q0 r0 ma mr M sM pM) ⟨rfl, rfl⟩ ⟨hR.1, by have := hR.2; show 8 + (3 + 11) + 540 ≤ _; omega⟩ q812 hlink q749 (va_Nw.warmD hG.1 (va_Nw.of rfl (Z.2.1 _ q748))) q810 q811 (by decide +kernel) (gP_V (Gd.O hG (SS.on Y 4 (by decide)).2 hS) hG hS (fun q hq h => absurd hq (Nat.not_lt.mpr (va_A0 h))) ⟨rfl, f1, f3⟩) rfl rfl hsize rfl (lv_room hW) hdg hf
  | 5, _ => exact vx_runA (x := ⟨"BladeAlgebra$One", "of", "(LBladeAlgebra$Algebra;LBladeAlgebra$Multi;)LBladeAlgebra$Multi;"⟩) (owner := "BladeAlgebra$One") (C := "BladeAlgebra$One$6") (As := [.ref ga, .ref ma]) (n := 2) S (xo5 Z (va_A [] H.size) H.size (fun q h => Or.inr h) Y (σ (30 + 5)) ga sg sr p0 q0 r0 ma mr M sM pM) ⟨rfl, rfl⟩ hR q816 hlink q749 (va_Nw.warmD hG.1 (va_Nw.of rfl (Z.2.1 _ q748))) q814 q815 (by decide +kernel) (gP_V (Gd.O hG (SS.on Y 5 (by decide)).2 hS) hG hS (fun q hq h => absurd hq (Nat.not_lt.mpr (va_A0 h))) ⟨rfl, f1, f3⟩) rfl rfl hsize rfl (lv_room hW) hdg hf
  | 6, _ => exact vx_runA (x := ⟨"BladeAlgebra$One", "of", "(LBladeAlgebra$Algebra;LBladeAlgebra$Multi;)LBladeAlgebra$Multi;"⟩) (owner := "BladeAlgebra$One") (C := "BladeAlgebra$One$7") (As := [.ref ga, .ref ma]) (n := 2) S (xo6 Z (va_A [] H.size) H.size (fun q h => Or.inr h) Y (σ (30 + 6)) ga sg sr p0 q0 r0 ma mr M sM pM) ⟨rfl, rfl⟩ ⟨hR.1, by have := hR.2; show 8 + (3 + 11) + 540 ≤ _; omega⟩ q825 hlink q749 (va_Nw.warmD hG.1 (va_Nw.of rfl (Z.2.1 _ q748))) q823 q824 (by decide +kernel) (gP_V (Gd.O hG (SS.on Y 6 (by decide)).2 hS) hG hS (fun q hq h => absurd hq (Nat.not_lt.mpr (va_A0 h))) ⟨rfl, f1, f3⟩) rfl rfl hsize rfl (lv_room hW) hdg hf
  | 7, _ => exact vx_runA (x := ⟨"BladeAlgebra$One", "of", "(LBladeAlgebra$Algebra;LBladeAlgebra$Multi;)LBladeAlgebra$Multi;"⟩) (owner := "BladeAlgebra$One") (C := "BladeAlgebra$One$8") (As := [.ref ga, .ref ma]) (n := 2) S (xo7 Z (va_A [] H.size) H.size (fun q h => Or.inr h) Y (σ (30 + 7)) ga sg sr p0 q0 r0 ma mr M sM pM) ⟨rfl, rfl⟩ ⟨hR.1, by have := hR.2; show 8 + (3 + 11) + 540 ≤ _; omega⟩ q829 hlink q749 (va_Nw.warmD hG.1 (va_Nw.of rfl (Z.2.1 _ q748))) q827 q828 (by decide +kernel) (gP_V (Gd.O hG (SS.on Y 7 (by decide)).2 hS) hG hS (fun q hq h => absurd hq (Nat.not_lt.mpr (va_A0 h))) ⟨rfl, f1, f3⟩) rfl rfl hsize rfl (lv_room hW) hdg hf
  | 8, _ => exact vx_runA (x := ⟨"BladeAlgebra$One", "of", "(LBladeAlgebra$Algebra;LBladeAlgebra$Multi;)LBladeAlgebra$Multi;"⟩) (owner := "BladeAlgebra$One") (C := "BladeAlgebra$One$9") (As := [.ref ga, .ref ma]) (n := 2) S (xo8 Z (va_A [] H.size) H.size (fun q h => Or.inr h) Y (σ (30 + 8)) ga sg sr p0 q0 r0 ma mr M sM pM) ⟨rfl, rfl⟩ ⟨hR.1, by have := hR.2; show 8 + (3 + 11) + 540 ≤ _; omega⟩ q833 hlink q749 (va_Nw.warmD hG.1 (va_Nw.of rfl (Z.2.1 _ q748))) q831 q832 (by decide +kernel) (gP_V (Gd.O hG (SS.on Y 8 (by decide)).2 hS) hG hS (fun q hq h => absurd hq (Nat.not_lt.mpr (va_A0 h))) ⟨rfl, f1, f3⟩) rfl rfl hsize rfl (lv_room hW) hdg hf
  | 9, _ => exact vx_runA (x := ⟨"BladeAlgebra$One", "of", "(LBladeAlgebra$Algebra;LBladeAlgebra$Multi;)LBladeAlgebra$Multi;"⟩) (owner := "BladeAlgebra$One") (C := "BladeAlgebra$One$10") (As := [.ref ga, .ref ma]) (n := 2) S (xo9 Z (va_A [] H.size) H.size (fun q h => Or.inr h) Y (σ (30 + 9)) ga sg sr p0 q0 r0 ma mr M sM pM) ⟨rfl, rfl⟩ hR q764 hlink q749 (va_Nw.warmD hG.1 (va_Nw.of rfl (Z.2.1 _ q748))) q762 q763 (by decide +kernel) (gP_V (Gd.O hG (SS.on Y 9 (by decide)).2 hS) hG hS (fun q hq h => absurd hq (Nat.not_lt.mpr (va_A0 h))) ⟨rfl, f1, f3⟩) rfl rfl hsize rfl (lv_room hW) hdg hf
set_option maxHeartbeats 4000000 in
theorem x1_large {l : Launch} {dC : Nat → ClassId} {dI : Nat → Nat → Nat} {dA : Nat → ClassId} {s0 : State} {b0 : Addr} (Z : Z0 l dC dI dA s0 b0) (A : Nat → Prop) (sz : Nat) (hA : ∀ q : Nat, sz ≤ q → A q) {σ : Nat → Nat} (Y : SS (dC, dI) dA σ s0) : Met l yX1_large (ws_ yX1_large cX1_large 0 (some (.object "java/lang/ArithmeticException"))) ({ frames := 6, cells := 1, slots := 6, locals := 360 } : Room) (gP [] s0 A (fun H => H.size = sz)) (va_Qr (S := Unit) (fun _ => True) (B1r (dC, dI) A (fun _ q => [(q, .inr (17, []))]) (fun _ _ _ => True)) A) 1 6 A := by
  refine Met.ofW (cc := cX1_large) (maxL := 0) (ret := (some (.object "java/lang/ArithmeticException"))) (by decide) rfl ?_
  intro p e s m args below meth c s₁ B hml hv
  obtain ⟨hav, hG, hsz⟩ := hv
  have hx := B.exec
  have hb := B.bytes
  have hr := B.returns
  have hts := atoms_spec (ws := (ws_ yX1_large cX1_large 0 (some (.object "java/lang/ArithmeticException")))) B.pre
  have hts : ∀ w ∈ lw_all, w.before _ s = true := fun w h => hts w (List.mem_cons_of_mem _ h)
  have hown : s.vm.findClass RX1 = some m.cls := findClass_of_methodNamed B.named
  have hlocks := B.notSynchronized
  have hK := hG.K Z
  subst hsz
  have hS : va_S A s.heap s.heap [] := va_S.rf
  have hP : va_P (dC, dI) vwCl [] s.heap := fun k q h => by simp at h
  have hD : va_D A [] := ⟨fun i j p q h => by simp at h, fun k q h => by simp at h⟩
  have hl := lv_entry ([]) (n := 0) (Nat.le_of_ble_eq_true rfl)
  rw [show entryFrame m args 0 = entryFrame m ([] : List Value).toArray 0 from by rw [hav], lg_entry_eq]
  generalize (lg_sl ([]) ++ List.replicate (0 - (lg_sl ([])).length) Slot.unset).toArray = ls at hl ⊢
  have hl : lv_has ls 0 [] := hl
  generalize hQe : MQ below _ _ s _ _ _ = Q
  change W p l e ({ frames := 6, cells := 1, slots := 6, locals := 360 } : Room) s m args below meth c s.heap [] 0 0 Q (F0 m 0 ls [])
  refine vx_makeS (D := (dC, dI)) (A := A) (own := RX1) (cls := "java/lang/ArithmeticException") (text := "does not fit") (names := ["java/lang/RuntimeException", "java/lang/Exception"]) (ci := 17) hx hb Z.2.2.2 hown (by decide +kernel) (by decide +kernel) (hts _ q565) (hts _ q114) (vk_R.warm hG.1 (SS.st4 Y)) (hatZ Z hG (by decide +kernel) (by decide +kernel)) (by decide +kernel) (hG.Zq (SS.st Y).1) (hG.Zq (SS.st Y).2) hS (hl.1.trans hml.symm) dX1_large_0 dX1_large_3 dX1_large_4 dX1_large_6 hK hP hD hA rfl (Nat.le_of_ble_eq_true rfl) (Nat.le_of_ble_eq_true rfl) (by decide) (by decide) (fun q9 H hP hD hS => ?_)
  have hP : va_P (dC, dI) vwCl [(q9, .inr (17, []))] H := hP
  have hD : va_D A [(q9, .inr (17, []))] := hD
  subst hQe
  refine W.widen (k := 1) (n := 6) (by first | decide | omega) (by first | decide | omega) ?_
  exact W.aret (v := .ref q9) hx hb hr (Or.inl ⟨_, rfl⟩) (Or.inr ⟨_, rfl⟩) (fun tz ht hW => ⟨⟨(), q9, rfl, trivial, B1r_at ht (hP.sub [0] rfl) (hD.sub [0] (by decide) rfl) trivial⟩, hS.F ht⟩) hS.2.2 dX1_large_9
set_option maxHeartbeats 4000000 in
theorem x1_registers {l : Launch} {dC : Nat → ClassId} {dI : Nat → Nat → Nat} {dA : Nat → ClassId} {s0 : State} {b0 : Addr} (Z : Z0 l dC dI dA s0 b0) (A : Nat → Prop) (sz : Nat) (hA : ∀ q : Nat, sz ≤ q → A q) {σ : Nat → Nat} (Y : SS (dC, dI) dA σ s0) (ia n : Nat) (f : Nat → Int32) (hn3 : n ≤ 3) : vx_Met l yX1_registers (ws_ yX1_registers cX1_registers 2 none) ({ frames := 7, cells := 3, slots := 18, locals := 420 } : Room) (gP [.ref ia] s0 A (fun H => H.size = sz ∧ RO A (dC, dI) [(ia, .inl (dA 0, n, .inl f))] H)) (va_Qv (S := Unit) (fun _ => rgA f n = true) (B1 (dC, dI) A (fun _ => []) (fun _ _ => True)) A) (vx_X (S := Unit) (fun _ => rgA f n = false) (fun _ E _ _ => E = "java/lang/IndexOutOfBoundsException") A) 3 18 A := by
  refine vx_ofW (cc := cX1_registers) (maxL := 2) (ret := none) (by decide) rfl ?_
  intro p e s m args below meth c s₁ B hml hnoH hv
  obtain ⟨hav, hG, hsz, hR0⟩ := hv
  have hx := B.exec
  have hb := B.bytes
  have hr := B.returns
  have hts := atoms_spec (ws := (ws_ yX1_registers cX1_registers 2 none)) B.pre
  have hts : ∀ w ∈ lw_all, w.before _ s = true := fun w h => hts w (List.mem_cons_of_mem _ h)
  have hown : s.vm.findClass RX1 = some m.cls := findClass_of_methodNamed B.named
  have hlocks := B.notSynchronized
  have hK := hG.K Z
  subst hsz
  have hS : va_S A s.heap s.heap [] := va_S.rf
  have hP : va_P (dC, dI) vwCl [] s.heap := fun k q h => by simp at h
  have hD : va_D A [] := ⟨fun i j p q h => by simp at h, fun k q h => by simp at h⟩
  have hl := lv_entry ([.ref ia]) (n := 2) (Nat.le_of_ble_eq_true rfl)
  rw [show entryFrame m args 2 = entryFrame m ([.ref ia] : List Value).toArray 2 from by rw [hav], lg_entry_eq]
  generalize (lg_sl ([.ref ia]) ++ List.replicate (2 - (lg_sl ([.ref ia])).length) Slot.unset).toArray = ls at hl ⊢
  have hl : lv_has ls 2 [(0, .ref ia)] := hl
  generalize hQe : vx_MQ below _ _ _ s _ _ _ = Q
  change W p l e ({ frames := 7, cells := 3, slots := 18, locals := 420 } : Room) s m args below meth c s.heap [] 0 0 Q (F0 m 0 ls [])
  refine lv_iconst (v := nI 0) hx hb dX1_registers_0 (by decide) ?_
  refine lv_istore_n (lv' := [(1, .int (nI 0)), (0, .ref ia)]) hx hb dX1_registers_1 rfl hl (by decide) rfl (fun ls hl => ?_)
  have loop_1 : ∀ (n9_1 : Nat) (k : Nat) (H : Heap) (locs : List Loc) (ls : Array Slot), n - k < n9_1 → (k ≤ n) → (rgA f k = true) → va_P (dC, dI) vwCl [] H → va_D A [] → va_S A s.heap H locs → lv_has ls 2 [(0, .ref ia), (1, .int (nI k))] → W p l e ({ frames := 7, cells := 3, slots := 18, locals := 420 } : Room) s m args below meth c H locs k (6 * k) Q (F0 m 2 ls []) := by
    intro n9_1
    induction n9_1 with
    | zero => intro k H locs ls hm_1; exact absurd hm_1 (Nat.not_lt_zero _)
    | succ n9_1 ih_1 =>
      intro k H locs ls hm_1 hk9 hr9 hP hD hS hl
      refine lv_iload_n hx hb dX1_registers_2 rfl (lv_at hl 1 rfl) ?_
      refine lv_aload_n hx hb dX1_registers_3 rfl (lv_at hl 0 rfl) ?_
      refine va_alen (v := nI n) hx hb hK (hR0.up hS) 0 0 rfl rfl rfl dX1_registers_4 ?_
      refine lv_icmp_ge (tgt := 28) hx hb dX1_registers_5 (by decide) (fun c_5 => ?_) (fun c_5 => ?_)
      · have c_5 : n ≤ k := (nI_leI (a := n) (b := k) (by omega) (by omega)).mp c_5
        obtain rfl : k = n := by omega
        subst hQe
        refine vx_ret ?_
        refine W.widen (k := 3) (n := 18) (by first | decide | omega) (by first | decide | omega) ?_
        exact W.vret hx hb hr (fun tz ht hW => ⟨⟨(), rfl, hr9, B1_at ht (hP.sub [] rfl) (hD.sub [] (by decide) rfl) trivial⟩, hS.F ht⟩) hS.2.2 dX1_registers_28
      · have c_5 : ¬ n ≤ k := fun h => c_5 ((nI_leI (a := n) (b := k) (by omega) (by omega)).mpr h)
        refine lv_aload_n hx hb dX1_registers_8 rfl (lv_at hl 0 rfl) ?_
        refine lv_iload_n hx hb dX1_registers_9 rfl (lv_at hl 1 rfl) ?_
        refine a_iald hx hb hK (hR0.up hS) 0 0 rfl rfl (by omega) (by omega) dX1_registers_10 ?_
        refine lv_i2l (v := (f k).toInt64) hx hb dX1_registers_11 rfl ?_
        refine lv_lconst (v := 0) hx hb dX1_registers_12 rfl ?_
        refine lv_ldc2 hx hb hown (hts _ q472) dX1_registers_13 ?_
        refine s_i (va_runS (As := [.long ((f k).toInt64), .long 0, .long (7 : Int64)]) (rest := []) ⟨hx, hb, hml, hown, hts⟩ (x1_isIn Z ((f k).toInt64) 0 (7 : Int64)) (va_cwS 3 hts (lw_S q332 q333 q96 q334) rfl rfl rfl (by decide +kernel) ⟨Nat.le_of_ble_eq_true rfl, Nat.le_of_ble_eq_true rfl⟩) (gP_S hG hS (fun q _ h => h.elim) trivial) rfl rfl hl.1 rfl (lv_room (Nat.le_of_ble_eq_true rfl)) dX1_registers_16 ⟨by first | decide | omega | (show _ ≤ (3 : Nat); omega), by first | decide | omega | (show _ ≤ (18 : Nat); omega)⟩) ?_
        refine e_i (y := bI (rgB (f k))) (congrArg bI (inL_B (f k) (nI 0) (nI 7))) ?_
        have hF9 := va_free (wc := []) hD hS (fun q h => hA q h) [] rfl
        refine x_v (wc := []) (wr := []) (vx_runS (As := [.int (bI (rgB (f k)))]) (rest := []) ⟨hx, hb, hml, hown, hts⟩ (x1_index Z (va_A [] H.size) H.size (fun q h => Or.inr h) (SS.st Y) (σ 50) (SS.st0 Y) (rgB (f k))) (va_cwS 1 hts (lw_S q473 q474 q96 q475) rfl rfl rfl (by decide +kernel) ⟨Nat.le_of_ble_eq_true rfl, Nat.le_of_ble_eq_true rfl⟩) (gP_S hG hS (fun q _ h => hF9 q h) rfl) rfl rfl hl.1 rfl (lv_room (Nat.le_of_ble_eq_true rfl)) dX1_registers_19 ⟨by first | decide | omega | (show _ ≤ (3 : Nat); omega), by first | decide | omega | (show _ ≤ (18 : Nat); omega)⟩) hP hD hS hA [] [] rfl rfl (by decide) (by decide) (fun E ce q9 u9 t9 H locs ht9 hp9 hb9 hz hP hS h1 h2 h3 => ?_) (fun u9 H locs hq hX hz hk hP hD hS => ?_)
        · have hD := hD.sub (ws' := []) [] (by decide) rfl
          have hP : va_P (dC, dI) vwCl [] H := hP
          have hD : va_D A [] := hD
          subst hb9
          subst hQe
          exact vx_out (fun x h => (hnoH x h).elim) hlocks h1 h2 h3 (fun t10 e10 _ => ⟨(), rgA_f (show rgA f (k + 1) = false from by show (rgA f k && rgB (f k)) = false; rw [hp9, Bool.and_false]) (by omega), rfl, hS.F e10⟩) hS.2.2 (by first | decide | omega) (by first | decide | omega)
        have hg19 : (rgB (f k)) = true := hq
        clear hq
        have hP : va_P (dC, dI) vwCl [] H := hP
        have hD : va_D A [] := hD
        refine lv_iinc (v := nI (k + 1)) (lv' := [(1, .int (nI (k + 1))), (0, .ref ia)]) hx hb dX1_registers_22 hl (k := 1) rfl (by exact nI_add _ 1) (by decide) rfl (fun ls hl => ?_)
        refine lv_goto (tgt := 2) hx hb dX1_registers_25 (by decide) ?_
        exact ih_1 (k + 1) H locs ls (by omega) (by omega) (by show (rgA f k && rgB (f k)) = true; rw [hr9, hg19]; rfl) (hP.sub [] rfl) (hD.sub [] (by decide) rfl) hS (lv_sub hl [1, 0] rfl)
  exact loop_1 _ 0 s.heap [] ls (Nat.lt_succ_self _) (by omega) rfl hP hD hS (lv_sub hl [1, 0] rfl)
set_option maxHeartbeats 4000000 in
theorem x1_store {l : Launch} {dC : Nat → ClassId} {dI : Nat → Nat → Nat} {dA : Nat → ClassId} {s0 : State} {b0 : Addr} (Z : Z0 l dC dI dA s0 b0) (A : Nat → Prop) (sz : Nat) (hA : ∀ q : Nat, sz ≤ q → A q) {σ : Nat → Nat} (Y : SS (dC, dI) dA σ s0) (xa : Nat → Nat) (tl : Nat) (ec ep : Int32) (ga : Nat) (fr : Nat → Option Nat) (j : Nat) (ma mr : Nat) (M : MV) (hj8 : j < 8) : Met l yX1_store (ws_ yX1_store cX1_store 3 (some .int)) ({ frames := 2, cells := 0, slots := 0, locals := 120 } : Room) (gP [.ref (xa 0), .int (nI j), .ref ma] s0 A (fun H => H.size = sz ∧ va_P (dC, dI) vwCl [((xa 7), .inl (dA 4, 8, .inr (.inr (.inr (.inr fr)))))] H ∧ va_D A [((xa 7), .inl (dA 4, 8, .inr (.inr (.inr (.inr fr)))))] ∧ RO A (dC, dI) [((xa 0), .inr (3, xFs xa tl ec ep)), ((xa 3), .inr (4, [.ref ga, .ref (xa 7)]))] H ∧ RO A (dC, dI) [(ma, .inr (0, [.ref mr, .long (M 0)])), (mr, .inl (dA 1, 32, .inr (.inl (fun j => M (j + 1)))))] H)) (va_Qi (S := Unit) (fun r _ => r = nI (trmS M)) (B1 (dC, dI) A (fun _ => [(xa 7, .inl (dA 4, 8, .inr (.inr (.inr (.inr (va_up fr j (some ma))))))) ]) (fun _ _ => True)) A) 0 0 A := by
  refine Met.ofW (cc := cX1_store) (maxL := 3) (ret := (some .int)) (by decide) rfl ?_
  intro p e s m args below meth c s₁ B hml hv
  obtain ⟨hav, hG, hsz, hP, hD, hR0, hR1⟩ := hv
  have hx := B.exec
  have hb := B.bytes
  have hr := B.returns
  have hts := atoms_spec (ws := (ws_ yX1_store cX1_store 3 (some .int))) B.pre
  have hts : ∀ w ∈ lw_all, w.before _ s = true := fun w h => hts w (List.mem_cons_of_mem _ h)
  have hown : s.vm.findClass RX1 = some m.cls := findClass_of_methodNamed B.named
  have hlocks := B.notSynchronized
  have hK := hG.K Z
  subst hsz
  have hS : va_S A s.heap s.heap [] := va_S.rf
  have hl := lv_entry ([.ref (xa 0), .int (nI j), .ref ma]) (n := 3) (Nat.le_of_ble_eq_true rfl)
  rw [show entryFrame m args 3 = entryFrame m ([.ref (xa 0), .int (nI j), .ref ma] : List Value).toArray 3 from by rw [hav], lg_entry_eq]
  generalize (lg_sl ([.ref (xa 0), .int (nI j), .ref ma]) ++ List.replicate (3 - (lg_sl ([.ref (xa 0), .int (nI j), .ref ma])).length) Slot.unset).toArray = ls at hl ⊢
  have hl : lv_has ls 3 [(0, .ref (xa 0)), (1, .int (nI j)), (2, .ref ma)] := hl
  generalize hQe : MQ below _ _ s _ _ _ = Q
  change W p l e ({ frames := 2, cells := 0, slots := 0, locals := 120 } : Room) s m args below meth c s.heap [] 0 0 Q (F0 m 0 ls [])
  refine lv_aload_n hx hb dX1_store_0 rfl (lv_at hl 0 rfl) ?_
  refine va_get (D := (dC, dI)) (ci := 3) (v := .ref (xa 3)) (C := RX1) (T := TX1) (N := 9) hx hb hts in_X1 hown hK (hR0.up hS) 0 rfl rfl 2 (by decide) (hts _ q286) (fun _ h9 => h9) rfl dX1_store_1 ?_
  refine va_getN (D := (dC, dI)) (ci := 4) (v := .ref (xa 7)) (C := RX4) (T := TX4) (N := 2) hx hb hts in_X4 hown hK (hR0.up hS) 1 rfl rfl 1 (by decide) (((va_Nw.warmF hG.1 (va_Nw.of rfl (Z.2.1 _ q243)))).use rfl) (fun _ h9 => h9) rfl dX1_store_4 ?_
  refine lv_iload_n hx hb dX1_store_7 rfl (lv_at hl 1 rfl) ?_
  refine lv_aload_n hx hb dX1_store_8 rfl (lv_at hl 2 rfl) ?_
  refine a_astM hx hb hK hP hD hS 0 4 rfl rfl (any_of hK (hR1.up hS) 0 rfl rfl) hj8 (by decide) dX1_store_9 (fun H locs hP hD hS => ?_)
  have hP : va_P (dC, dI) vwCl [((xa 7), .inl (dA 4, 8, .inr (.inr (.inr (.inr (va_up fr j (some ma)))))))] H := hP
  have hD : va_D A [((xa 7), .inl (dA 4, 8, .inr (.inr (.inr (.inr (va_up fr j (some ma)))))))] := hD
  refine lv_aload_n hx hb dX1_store_10 rfl (lv_at hl 2 rfl) ?_
  refine s_i (va_runV (As := []) (rest := []) ⟨hx, hb, hml, hown, hts⟩ (x6_terms Z ma mr M) (cwV 0 hts (lw_V q735 q736 q737 q102 q738) rfl rfl rfl (by decide +kernel) ⟨Nat.le_of_ble_eq_true rfl, Nat.le_of_ble_eq_true rfl⟩) (gP_V (va_recv hK (hR1.up hS) (ci := 0) (q0 := 0) rfl rfl) hG hS (fun q _ h => h.elim) ((hR1.up hS).sub (ws' := [(ma, .inr (0, [.ref mr, .long (M 0)])), (mr, .inl (dA 1, 32, .inr (.inl (fun j => M (j + 1)))))]) [0, 1] rfl)) rfl rfl hl.1 rfl (lv_room (Nat.le_of_ble_eq_true rfl)) dX1_store_11 ⟨by first | decide | omega | (show _ ≤ (0 : Nat); omega), by first | decide | omega | (show _ ≤ (0 : Nat); omega)⟩) ?_
  subst hQe
  exact W.iret (v := nI (trmS M)) hx hb hr (fun tz ht hW => ⟨⟨_, (), rfl, rfl, B1_at ht (hP.sub [0] rfl) (hD.sub [0] (by decide) rfl) trivial⟩, hS.F ht⟩) hS.2.2 dX1_store_14
