/-! PLAIN LAW: what the two states have in common. Own text. -/
set_option maxRecDepth 100000
def mi (M : MS) (k : Nat) : Int := (M.1 k).toInt
def ma (M : MS) (k j : Nat) : Int := (M.2.1 k j).toInt
theorem mi_eq (M : MS) (k : Nat) : M.1 k = iz (mi M k) := (iz_of _).symm
theorem ma_eq (M : MS) (k j : Nat) : M.2.1 k j = iz (ma M k j) := (iz_of _).symm
theorem mi_R (M : MS) (k : Nat) : -2147483648 ≤ mi M k ∧ mi M k ≤ 2147483647 := ⟨by have := (M.1 k).le_toInt; unfold mi; omega, by have := (M.1 k).toInt_lt; unfold mi; omega⟩
theorem ma_R (M : MS) (k j : Nat) : -2147483648 ≤ ma M k j ∧ ma M k j ≤ 2147483647 := ⟨by have := (M.2.1 k j).le_toInt; unfold ma; omega, by have := (M.2.1 k j).toInt_lt; unfold ma; omega⟩
theorem mi_sI (M : MS) (k : Nat) {v : Int} (h : -2147483648 ≤ v ∧ v ≤ 2147483647) (j : Nat) : mi (sI M k (iz v)) j = if j = k then v else mi M j := by
  unfold mi
  rw [sI1]
  by_cases e : j = k
  · rw [if_pos e, if_pos e, iz_toInt h]
  · rw [if_neg e, if_neg e]
theorem mi_sA (M : MS) (k i : Nat) (v : Int32) (j : Nat) : mi (sA M k i v) j = mi M j := rfl
theorem mi_sL (M : MS) (i : Nat) (v : Int64) (j : Nat) : mi (sL M i v) j = mi M j := rfl
theorem ma_sI (M : MS) (k : Nat) (v : Int32) (j i : Nat) : ma (sI M k v) j i = ma M j i := rfl
theorem ma_sL (M : MS) (k : Nat) (v : Int64) (j i : Nat) : ma (sL M k v) j i = ma M j i := rfl
theorem ma_sA (M : MS) (k i : Nat) {v : Int} (h : -2147483648 ≤ v ∧ v ≤ 2147483647) (j i' : Nat) : ma (sA M k i (iz v)) j i' = if j = k then (if i' = i then v else ma M k i') else ma M j i' := by
  unfold ma
  rw [sA21]
  by_cases e : j = k
  · rw [if_pos e, if_pos e]
    by_cases e2 : i' = i
    · rw [if_pos e2, if_pos e2, iz_toInt h]
    · rw [if_neg e2, if_neg e2]
  · rw [if_neg e, if_neg e]
/-! what no answer rests on -/
def scrI (k : Nat) : Bool := [16, 17, 20, 22, 26, 27, 28].contains k
def scrA (k : Nat) : Bool := [13, 14, 15, 18, 19, 21, 23, 24, 25, 49].contains k
def xs (X X' : XS) : Prop := X'.2.2 = X.2.2 ∧ (∀ k, scrI k = false → X'.1 k = X.1 k) ∧ ∀ k, scrA k = false → X'.2.1 k = X.2.1 k
def smI (k : Nat) : Bool := [14, 15, 16, 17, 44, 46].contains k
def smA (k : Nat) : Bool := [18, 19, 20, 21, 22, 23, 45, 47, 48, 49, 50, 51, 52, 53].contains k
def sm (M M' : MS) : Prop := M'.2.2 = M.2.2 ∧ (∀ k, smI k = false → M'.1 k = M.1 k) ∧ ∀ k, smA k = false → M'.2.1 k = M.2.1 k
theorem xs.rf (X : XS) : xs X X := ⟨rfl, fun _ _ => rfl, fun _ _ => rfl⟩
theorem sm.rf (M : MS) : sm M M := ⟨rfl, fun _ _ => rfl, fun _ _ => rfl⟩
theorem xs.tr {X Y Z : XS} (h : xs X Y) (g : xs Y Z) : xs X Z := ⟨g.1.trans h.1, fun k hk => (g.2.1 k hk).trans (h.2.1 k hk), fun k hk => (g.2.2 k hk).trans (h.2.2 k hk)⟩
theorem sm.tr {X Y Z : MS} (h : sm X Y) (g : sm Y Z) : sm X Z := ⟨g.1.trans h.1, fun k hk => (g.2.1 k hk).trans (h.2.1 k hk), fun k hk => (g.2.2 k hk).trans (h.2.2 k hk)⟩
theorem xs.setI {X Y : XS} (h : xs X Y) {k : Nat} (hk : scrI k = true) (v : Int32) : xs X (xI Y k v) := by
  refine ⟨h.1, fun j hj => ?_, h.2.2⟩
  rw [xI1, if_neg (fun e => by rw [e, hk] at hj; cases hj)]
  exact h.2.1 j hj
theorem xs.setA {X Y : XS} (h : xs X Y) {k : Nat} (hk : scrA k = true) (i : Nat) (v : Int32) : xs X (xA Y k i v) := by
  refine ⟨h.1, h.2.1, fun j hj => ?_⟩
  have : (xA Y k i v).2.1 j = Y.2.1 j := by
    funext i'
    rw [xA21, if_neg (fun e => by rw [e, hk] at hj; cases hj)]
  rw [this]
  exact h.2.2 j hj
theorem sm.setI {X Y : MS} (h : sm X Y) {k : Nat} (hk : smI k = true) (v : Int32) : sm X (sI Y k v) := by
  refine ⟨h.1, fun j hj => ?_, h.2.2⟩
  rw [sI1, if_neg (fun e => by rw [e, hk] at hj; cases hj)]
  exact h.2.1 j hj
theorem sm.setA {X Y : MS} (h : sm X Y) {k : Nat} (hk : smA k = true) (i : Nat) (v : Int32) : sm X (sA Y k i v) := by
  refine ⟨h.1, h.2.1, fun j hj => ?_⟩
  have : (sA Y k i v).2.1 j = Y.2.1 j := by
    funext i'
    rw [sA21, if_neg (fun e => by rw [e, hk] at hj; cases hj)]
  rw [this]
  exact h.2.2 j hj
theorem sm_mi {M M' : MS} (h : sm M M') {k : Nat} (hk : smI k = false) : mi M' k = mi M k := by unfold mi; rw [h.2.1 k hk]
theorem sm_ma {M M' : MS} (h : sm M M') {k : Nat} (hk : smA k = false) (j : Nat) : ma M' k j = ma M k j := by unfold ma; rw [h.2.2 k hk]
/-! posts and the gate -/
def RP (X : XS) (M : MS) : Prop :=
  (X.1 1 = iz (mi M 0) ∧ 0 ≤ mi M 0 ∧ mi M 0 ≤ 9) ∧
  (X.1 2 = iz (ma M 5 0) ∧ X.1 3 = iz (ma M 5 1) ∧ X.1 4 = iz (ma M 5 2) ∧ X.1 5 = iz (ma M 5 3)) ∧
  ((0 ≤ ma M 5 0 ∧ ma M 5 0 ≤ 15) ∧ (0 ≤ ma M 5 1 ∧ ma M 5 1 ≤ 15) ∧ (1 ≤ ma M 5 2 ∧ ma M 5 2 ≤ 9) ∧ 0 ≤ ma M 5 3 ∧ ma M 5 3 ≤ 9) ∧
  (∀ p : Nat, (p : Int) < mi M 0 → ∃ (a : Nat) (o : XO), X.2.2.1 0 p = some a ∧ X.2.2.2 a = some o ∧ o.1 = 3 ∧ o.2.1 0 = iz (ma M 1 p) ∧ o.2.1 1 = iz (ma M 2 p) ∧ o.2.1 2 = iz (ma M 3 p) ∧ o.2.1 3 = iz (ma M 4 p) ∧ o.2.1 4 = iz (ma M 26 p)) ∧
  (∀ p : Nat, (p : Int) < mi M 0 → (0 ≤ ma M 1 p ∧ ma M 1 p ≤ 15) ∧ (0 ≤ ma M 2 p ∧ ma M 2 p ≤ 15) ∧ (0 ≤ ma M 3 p ∧ ma M 3 p ≤ 9) ∧ 1 ≤ ma M 4 p ∧ ma M 4 p ≤ 999) ∧
  (∀ p q : Nat, (p : Int) < mi M 0 → (q : Int) < mi M 0 → X.2.2.1 0 p = X.2.2.1 0 q → p = q) ∧
  (∀ p : Nat, mi M 0 ≤ p → p < 9 → ma M 26 p = 0)
/-! changes -/
def fitV (w v : Int) : Prop := if w = 2 ∨ w = 7 then 0 ≤ v ∧ v ≤ 9 else if w = 3 then 1 ≤ v ∧ v ≤ 999 else if w = 6 then 1 ≤ v ∧ v ≤ 9 else 0 ≤ v ∧ v ≤ 15
def okCh (n c w v : Int) : Prop := (0 ≤ w ∧ w ≤ 7) ∧ (w ≤ 3 → 0 ≤ c ∧ c < n) ∧ (4 ≤ w → c = 0) ∧ fitV w v
def RC (X : XS) (M : MS) : Prop :=
  (X.1 7 = iz (mi M 35) ∧ X.1 8 = iz (mi M 34 - mi M 35)) ∧ (0 ≤ mi M 35 ∧ mi M 35 ≤ mi M 34 ∧ mi M 34 ≤ 40) ∧
  (∀ k : Nat, (k : Int) < mi M 34 → ∃ (a : Nat) (o : XO), X.2.2.1 6 k = some a ∧ X.2.2.2 a = some o ∧ o.1 = 4 ∧ o.2.1 0 = iz (ma M 36 (4 * k + 1)) ∧ o.2.1 1 = iz (ma M 36 (4 * k)) ∧ o.2.1 2 = iz (ma M 36 (4 * k + 2)) ∧ o.2.1 3 = iz (ma M 36 (4 * k + 3))) ∧
  (∀ k : Nat, (k : Int) < mi M 34 → okCh (mi M 0) (ma M 36 (4 * k)) (ma M 36 (4 * k + 1)) (ma M 36 (4 * k + 2)) ∧ okCh (mi M 0) (ma M 36 (4 * k)) (ma M 36 (4 * k + 1)) (ma M 36 (4 * k + 3)))
/-! the tape -/
def RT (X : XS) (M : MS) : Prop := (X.1 10 = iz (mi M 6) ∧ 0 ≤ mi M 6 ∧ mi M 6 ≤ 120) ∧ ∀ k : Nat, (k : Int) < mi M 6 → (0 ≤ ma M 7 k ∧ ma M 7 k ≤ 255) ∧ X.2.1 9 k = (M.2.1 7 k).toInt8.toInt32
/-! the law: a node stands for a row of codes -/
def letterOf (k : Int) : Int := if k = 0 then 118 else if k = 1 then 117 else if k = 2 then 109 else if k = 3 then 100 else if k = 4 then 112 else 110
def signOf (k : Int) : Int := if k = 6 then 124 else if k = 7 then 38 else if k = 8 then 60 else if k = 9 then 61 else if k = 10 then 62 else if k = 11 then 43 else if k = 12 then 45 else if k = 13 then 42 else if k = 14 then 47 else 37
def nodeR (X : XS) : Nat → Nat → List Int → Prop
  | 0, _, _ => False
  | d + 1, a, c => ∃ o : XO, X.2.2.2 a = some o ∧
    ((o.1 = 8 ∧ ∃ k : Int, 0 ≤ k ∧ k ≤ 5 ∧ c = [k] ∧ o.2.1 0 = iz (letterOf k)) ∨
     (o.1 = 11 ∧ ∃ v : Int, 0 ≤ v ∧ v ≤ 9999 ∧ c = [18 + v] ∧ o.2.1 0 = iz v) ∨
     (o.1 = 9 ∧ ∃ (b : Nat) (c1 : List Int), o.2.2.1 0 = some b ∧ nodeR X d b c1 ∧ c = c1 ++ [16]) ∨
     (o.1 = 10 ∧ ∃ (b : Nat) (c1 : List Int), o.2.2.1 0 = some b ∧ nodeR X d b c1 ∧ c = c1 ++ [17]) ∨
     (o.1 = 12 ∧ ∃ (b1 b2 : Nat) (c1 c2 : List Int) (k : Int), 6 ≤ k ∧ k ≤ 15 ∧ o.2.1 0 = iz (signOf k) ∧ o.2.2.1 1 = some b1 ∧ o.2.2.1 2 = some b2 ∧ nodeR X d b1 c1 ∧ nodeR X d b2 c2 ∧ c = c1 ++ (c2 ++ [k])))
/-- the codes from a place to a place -/
def codeSl (M : MS) (i j : Int) (c : List Int) : Prop := j = i + c.length ∧ ∀ k : Nat, k < c.length → ma M 13 (i.toNat + k) = c.getD k 0
def linesR (X : XS) (M : MS) : Nat → Nat → Option Nat → Prop
  | 0, _, e => e = none
  | n + 1, i, e => ∃ (a : Nat) (o : XO), e = some a ∧ X.2.2.2 a = some o ∧ o.1 = 6 ∧ (0 ≤ ma M 10 i ∧ ma M 12 i ≤ 200) ∧
    (∃ (g : Nat) (c : List Int), o.2.2.1 1 = some g ∧ nodeR X 130 g c ∧ codeSl M (ma M 11 i) (ma M 12 i) c) ∧
    ((o.2.2.1 0 = none ∧ ma M 11 i = ma M 10 i) ∨ (∃ (t : Nat) (c : List Int), o.2.2.1 0 = some t ∧ nodeR X 130 t c ∧ codeSl M (ma M 10 i) (ma M 11 i) c ∧ c ≠ [])) ∧ linesR X M n (i + 1) (o.2.2.1 2)
def RL (X : XS) (M : MS) : Prop := (M.1 8 = iz 0 ∧ X.2.2.1 11 0 = none) ∨ (M.1 8 = iz 1 ∧ (1 ≤ mi M 9 ∧ mi M 9 ≤ 60) ∧ X.2.2.1 11 0 ≠ none ∧ linesR X M (mi M 9).toNat 0 (X.2.2.1 11 0))
/-! in deed, the image, keys' ways, bodies, shelves -/
def RA (X : XS) (M : MS) : Prop := (X.1 29 = iz (mi M 24) ∧ -1 ≤ mi M 24 ∧ mi M 24 < mi M 0) ∧ (X.1 30 = iz (mi M 25) ∧ 0 ≤ mi M 25 ∧ mi M 25 ≤ 9999) ∧ X.1 31 = M.2.1 27 0 ∧ X.1 32 = M.2.1 27 1 ∧ X.1 33 = M.2.1 27 2 ∧ X.1 34 = M.2.1 27 3
def RI (X : XS) (M : MS) : Prop := X.1 35 = M.1 28 ∧ (M.1 28 ≠ 0 → (X.1 37 = iz (mi M 29) ∧ 0 ≤ mi M 29 ∧ mi M 29 ≤ mi M 0) ∧ (X.1 38 = iz (mi M 30) ∧ -1 ≤ mi M 30 ∧ mi M 30 < mi M 0) ∧ (X.1 39 = iz (mi M 31) ∧ 0 ≤ mi M 31 ∧ mi M 31 ≤ 9999) ∧ (X.1 40 = M.2.1 33 0 ∧ X.1 41 = M.2.1 33 1 ∧ X.1 42 = M.2.1 33 2 ∧ X.1 43 = M.2.1 33 3) ∧ ∀ p : Nat, (p : Int) < mi M 29 → X.2.1 36 p = M.2.1 32 p)
def RK (X : XS) (M : MS) : Prop := (X.1 44 = iz (mi M 39) ∧ 0 ≤ mi M 39 ∧ mi M 39 ≤ 1000000) ∧ ∀ k : Nat, k < 24 → (k : Int) < mi M 39 → X.2.1 45 k = M.2.1 40 k
def RB (X : XS) (M : MS) : Prop := (X.1 47 = iz (mi M 37) ∧ 0 ≤ mi M 37 ∧ mi M 37 ≤ 50) ∧ ∀ b : Nat, (b : Int) < mi M 37 → ∃ (a : Nat) (o : XO), X.2.2.1 46 b = some a ∧ X.2.2.2 a = some o ∧ (o.1 : Int) = 14 + ma M 38 b ∧ (0 ≤ ma M 38 b ∧ ma M 38 b ≤ 7) ∧ o.2.1 0 = iz b
def shR (X : XS) (M : MS) (s : Nat) : Prop :=
  (ma M 41 s = -1 ∧ X.2.2.1 48 s = none) ∨
  (∃ b : Nat, ma M 41 s = 10 + b ∧ (b : Int) < mi M 37 ∧ X.2.2.1 48 s = X.2.2.1 46 b) ∨
  (∃ (h a b : Nat) (z : XO), h ≤ 4 ∧ ma M 41 s = h ∧ X.2.2.1 48 s = some a ∧ rowZ X a (23 + h) = some (b, z) ∧ ma M 42 s = z.2.2.2.1 ∧ z.2.2.2.1 ≤ 60 ∧ ∀ j : Nat, j < z.2.2.2.1 → rAt (23 + h) z j = M.2.2 (60 * s + j))
def RS (X : XS) (M : MS) : Prop := (∀ s : Nat, s < 6 → shR X M s) ∧ ∀ (s s' h h' a a' b b' : Nat) (z z' : XO), s < 6 → s' < 6 → s ≠ s' → ma M 41 s = h → h ≤ 4 → ma M 41 s' = h' → h' ≤ 4 → X.2.2.1 48 s = some a → X.2.2.1 48 s' = some a' → rowZ X a (23 + h) = some (b, z) → rowZ X a' (23 + h') = some (b', z') → b ≠ b'
def R (X : XS) (M : MS) : Prop := RP X M ∧ RC X M ∧ RT X M ∧ RL X M ∧ RA X M ∧ RI X M ∧ RK X M ∧ RB X M ∧ RS X M
