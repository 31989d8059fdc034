/-! plain law: what ties the class's heap to the model's memory -/
set_option maxRecDepth 100000
/-- a row: its class and array by its sort; what it holds, as longs -/
def rowA (so n : Nat) (f : Nat → Int64) : XE := if so = 3 then .inl (1, n, .inr (.inl f)) else .inl ((if so = 0 then 2 else if so = 1 then 3 else 0), n, .inl (fun j => (f j).toInt32))
/-- what each sort keeps of a long -/
def cut (so : Nat) (v : Int64) : Int64 := if so = 0 then v.toInt8.toInt64 else if so = 1 then v.toInt16.toInt64 else if so = 2 then v.toInt32.toInt64 else v
def isRow (C : XH) (ρ : Nat → Nat) (i q so n : Nat) (f : Nat → Int64) : Prop := so ≤ 3 ∧ n ≤ 160 ∧ (∀ j, j < n → cut so (f j) = f j) ∧ ρ q = 50 + i ∧ ∃ a, ρ a = 60 + i ∧ C q = some (.inr (9 + so, [.ref a])) ∧ C a = some (rowA so n f)
/-- a field's data are the model's -/
def kidOk (C : XH) (ρ : Nat → Nat) (F : FD) (c : Nat) (kd pt : Int32) : Prop := ∃ (b k : Nat), F.2.2 c = some b ∧ k ≤ 6 ∧ kd = Int32.ofNat k ∧ C b = some (HOb k (Int32.ofNat c) pt) ∧ ρ b = 40
/-- numbers: many, sacks, races, rolling, seed; asked 0..3; arrays: kind, part, legs, worn, ahead, won, length, holes -/
abbrev MD : Type := (Nat → Int32) × (Nat → Nat → Int32)
def FEq (C : XH) (ρ : Nat → Nat) (F : FD) (M : MD) : Prop := (∀ k, k < 5 → F.1 k = M.1 k) ∧ (∀ k, k < 4 → F.2.1 5 k = M.1 (5 + k)) ∧ (∀ c, c < (M.1 0).toNatClampNeg → (F.2.1 7 c = M.2 2 c ∧ F.2.1 8 c = M.2 3 c ∧ F.2.1 9 c = M.2 4 c ∧ F.2.1 10 c = M.2 5 c) ∧ kidOk C ρ F c (M.2 0 c) (M.2 1 c)) ∧ (∀ s, s < (M.1 1).toNatClampNeg → F.2.1 11 s = M.2 6 s ∧ F.2.1 12 s = M.2 7 s)
/-- the bounds that always hold -/
def MB (M : MD) : Prop := (0 ≤ M.1 0 ∧ M.1 0 ≤ 8) ∧ (0 ≤ M.1 1 ∧ M.1 1 ≤ 8) ∧ (M.1 3 = 0 ∨ M.1 3 = 1) ∧ (1 ≤ M.1 5 ∧ M.1 5 ≤ 200) ∧ (1 ≤ M.1 6 ∧ M.1 6 ≤ 20) ∧ (0 ≤ M.1 7 ∧ M.1 7 ≤ 9) ∧ (0 ≤ M.1 8 ∧ M.1 8 ≤ 60) ∧ (∀ c, c < (M.1 0).toNatClampNeg → (0 ≤ M.2 1 c ∧ M.2 1 c ≤ 9) ∧ (1 ≤ M.2 2 c ∧ M.2 2 c ≤ 9) ∧ (0 ≤ M.2 3 c ∧ (M.2 3 c = 0 ∨ M.2 3 c < M.1 1)) ∧ (0 ≤ M.2 4 c ∧ M.2 4 c ≤ 99)) ∧ (∀ s, s < (M.1 1).toNatClampNeg → (1 ≤ M.2 6 s ∧ M.2 6 s ≤ 9) ∧ (0 ≤ M.2 7 s ∧ M.2 7 s ≤ 9))
/-- what the model has now, what it has kept -/
def nowM (S : MS) : MD := (fun k => match k with
  | 0 => S.1 0
  | 1 => S.1 1
  | 2 => S.1 7
  | 3 => S.1 6
  | 4 => S.1 8
  | k + 5 => S.1 (2 + k), fun k => S.2.1 (11 + k))
def keptM (S : MS) : MD := (fun k => match k with
  | 0 => S.2.1 34 68
  | 1 => S.2.1 34 69
  | 2 => S.2.1 34 71
  | 3 => S.2.1 34 70
  | 4 => S.2.1 34 72
  | k + 5 => S.2.1 34 (64 + k), fun k c => S.2.1 34 (8 * k + c))
/-- the fixed addresses: ax; the fields': f, fa; roles: ρ -/
def fRole (ρ : Nat → Nat) (id f : Nat) (fa : Nat → Nat) : Prop := ρ f = 100 * (id + 1) ∧ ∀ j, 5 ≤ j → j ≤ 12 → ρ (fa j) = 100 * (id + 1) + (j - 4)
def fixedA : List Nat := [1, 2, 3, 4, 5, 6, 7, 8, 10, 11, 12, 13, 14, 15, 16, 17, 18, 20, 21, 22, 23, 24, 25, 26, 27, 30, 31, 32, 33, 34, 35, 36, 37]
def shelfOk (C : XH) (ρ ax : Nat → Nat) (F : FD) (S : MS) (i : Nat) : Prop :=
  (S.2.1 19 i = 0 ∧ C (ax (20 + i)) = some (.inr (5, [.null])))
  ∨ (S.2.1 19 i = 1 ∧ ∃ (q so n : Nat), C (ax (20 + i)) = some (.inr (5, [.ref q])) ∧ S.2.1 20 i = Int32.ofNat so ∧ S.2.1 21 i = Int32.ofNat n ∧ isRow C ρ i q so n (fun j => S.2.2 23 (160 * i + j)))
  ∨ (S.2.1 19 i = 2 ∧ ∃ b : Nat, C (ax (20 + i)) = some (.inr (5, [.ref b])) ∧ 0 ≤ S.2.1 22 i ∧ S.2.1 22 i < S.1 0 ∧ F.2.2 (S.2.1 22 i).toNatClampNeg = some b)
def imgOk (C : XH) (ρ : Nat → Nat) (S : MS) (im : Option Nat) (ii : Nat) : Prop := (im = none ∧ S.1 58 = 0) ∨ ∃ (f : Nat) (fa : Nat → Nat) (F : FD), im = some f ∧ S.1 58 = 1 ∧ fRole ρ ii f fa ∧ FRep C f fa F ∧ FEq C ρ F (keptM S) ∧ MB (keptM S)
/-- what stands at the fixed addresses -/
def Fix (C : XH) (ax : Nat → Nat) (ft fw : Nat) (im : Option Nat) (S : MS) : Prop :=
  C (ax 1) = some (.inr (0, [.ref (ax 2), .ref (ax 3), .ref (ax 4), .ref (ax 6), .ref (ax 7), .ref (ax 8), .ref ft, .ref fw, va_rf im, .int (S.1 9)])) ∧
  C (ax 2) = some (QA 4 8 (fun i => some (ax (20 + i)))) ∧ C (ax 3) = some (IA 8 (S.2.1 10)) ∧ C (ax 4) = some (.inr (1, [.ref (ax 5), .int (S.1 57)])) ∧ C (ax 5) = some (IA 20 (S.2.1 56)) ∧ 0 ≤ S.1 57 ∧
  (∃ e, C (ax 6) = some e ∧ isRun e) ∧ C (ax 7) = some (QA 5 8 (fun i => some (ax (30 + i)))) ∧ (∀ i, i < 8 → ∃ e, C (ax (30 + i)) = some e ∧ isRun e) ∧
  (∃ (v0 : Value) (g1 g2 g3 : Int32), C (ax 8) = some (.inr (3, [.ref (ax 10), .ref (ax 16), .ref (ax 17), .ref (ax 18), v0, .int g1, .int g2, .int g3]))) ∧ C (ax 10) = some (QA 6 5 (fun j => some (ax (11 + j)))) ∧ (∀ j, j < 5 → ∃ u, C (ax (11 + j)) = some (IA 8 u)) ∧ (∃ u, C (ax 16) = some (IA 5 u)) ∧ (∃ u, C (ax 17) = some (IA 5 u)) ∧ (∃ e, C (ax 18) = some e ∧ isRun e)
/-- the tie -/
def Rel (x h : Nat) (ad : Nat → Nat) (C : XH) (S : MS) : Prop := ∃ (ρ ax : Nat → Nat) (iw ii : Nat) (ft fw : Nat) (fta fwa : Nat → Nat) (Ft Fw : FD) (im : Option Nat),
  (mIn C h ad S ∧ mDis h ad ∧ ρ h = 9 ∧ ∀ k ∈ mIds, ρ (ad k) = 9) ∧ (x = ax 1 ∧ ∀ k ∈ fixedA, ρ (ax k) = k) ∧ (0 < iw ∧ 0 < ii ∧ iw ≠ ii) ∧
  Fix C ax ft fw im S ∧ (fRole ρ 0 ft fta ∧ FRep C ft fta Ft) ∧ (fRole ρ iw fw fwa ∧ FRep C fw fwa Fw ∧ FEq C ρ Fw (nowM S) ∧ MB (nowM S)) ∧ imgOk C ρ S im ii ∧ (∀ i, i < 8 → shelfOk C ρ ax Fw S i)
