/-! THE COMPONENT'S WORLD (roles: 0 the object, k + 1 what its field k holds, 50 the facts' numbers, 100 + a the object or array at a); its state. Own text, printed by xrows.py. -/
set_option maxRecDepth 100000
/-- an object or array: tag, numbers, references, length, ints, longs -/
abbrev XO : Type := Nat × (Nat → Int32) × (Nat → Option Nat) × Nat × (Nat → Int32) × (Nat → Int64)
/-- the state: numbers by field, arrays by field, arrays of references (the law: place 0 of row 11), objects by address -/
abbrev XS : Type := (Nat → Int32) × (Nat → Nat → Int32) × (Nat → Nat → Option Nat) × (Nat → Option XO)
def xKd : Nat → Nat := fun k => match k with
  | 0 => 5
  | 6 => 5
  | 9 => 4
  | 11 => 7
  | 12 => 6
  | 13 => 1
  | 14 => 1
  | 15 => 1
  | 18 => 1
  | 19 => 1
  | 21 => 1
  | 23 => 3
  | 24 => 3
  | 25 => 1
  | 36 => 1
  | 45 => 4
  | 46 => 5
  | 48 => 5
  | 49 => 1
  | _ => 0
def xLn : Nat → Nat := fun k => match k with
  | 0 => 9
  | 6 => 40
  | 9 => 120
  | 13 => 20
  | 14 => 4000
  | 15 => 4000
  | 18 => 9
  | 19 => 9
  | 21 => 4000
  | 23 => 1000
  | 24 => 1000
  | 25 => 60
  | 36 => 9
  | 45 => 24
  | 46 => 50
  | 48 => 6
  | 49 => 128
  | _ => 0
/-- array classes by field -/
def xJt : Nat → Nat := fun k => match k with
  | 0 => 5
  | 6 => 6
  | 9 => 3
  | 23 => 2
  | 24 => 2
  | 45 => 3
  | 46 => 7
  | 48 => 8
  | _ => 0
def oCi : Nat → Nat := fun t => match t with
  | 3 => ciX3
  | 4 => ciX4
  | 5 => ciX5
  | 6 => ciX6
  | 8 => ciX8
  | 9 => ciX9
  | 10 => ciX10
  | 11 => ciX11
  | 12 => ciX12
  | 14 => ciX14
  | 15 => ciX15
  | 16 => ciX16
  | 17 => ciX17
  | 18 => ciX18
  | 19 => ciX19
  | 20 => ciX20
  | 21 => ciX21
  | 23 => ciX23
  | 24 => ciX24
  | 25 => ciX25
  | 26 => ciX26
  | 27 => ciX27
  | _ => 0
def oN : Nat → Nat := fun t => match t with
  | 3 => 5
  | 4 => 4
  | 5 => 4
  | 6 => 3
  | 8 => 1
  | 9 => 1
  | 10 => 1
  | 11 => 1
  | 12 => 3
  | 14 => 2
  | 15 => 3
  | 16 => 3
  | 17 => 4
  | 18 => 4
  | 19 => 5
  | 20 => 3
  | 21 => 5
  | 23 => 1
  | 24 => 1
  | 25 => 1
  | 26 => 1
  | 27 => 1
  | _ => 0
/-- kind of an object's field: 0 number, 1 reference, 2 the outer object -/
def oK : Nat → Nat → Nat := fun t k => match t with
  | 3 => 0
  | 4 => 0
  | 5 => match k with
    | 0 => 0
    | 1 => 0
    | 2 => 0
    | _ => 2
  | 6 => 1
  | 8 => 0
  | 9 => 1
  | 10 => 1
  | 11 => 0
  | 12 => match k with
    | 0 => 0
    | 1 => 1
    | _ => 1
  | 14 => match k with
    | 0 => 0
    | _ => 2
  | 15 => match k with
    | 0 => 0
    | 1 => 2
    | _ => 2
  | 16 => match k with
    | 0 => 0
    | 1 => 2
    | _ => 2
  | 17 => match k with
    | 0 => 0
    | 1 => 2
    | 2 => 2
    | _ => 2
  | 18 => match k with
    | 0 => 0
    | 1 => 2
    | 2 => 2
    | _ => 2
  | 19 => match k with
    | 0 => 0
    | 1 => 2
    | 2 => 2
    | 3 => 2
    | _ => 2
  | 20 => match k with
    | 0 => 0
    | 1 => 2
    | _ => 2
  | 21 => match k with
    | 0 => 0
    | 1 => 2
    | 2 => 2
    | 3 => 2
    | _ => 2
  | 23 => 1
  | 24 => 1
  | 25 => 1
  | 26 => 1
  | 27 => 1
  | _ => 0
def xI (S : XS) (k : Nat) (v : Int32) : XS := (upd S.1 k v, S.2)
def xA (S : XS) (k j : Nat) (v : Int32) : XS := (S.1, updA S.2.1 k (upd (S.2.1 k) j v), S.2.2)
def updR (f : Nat → Nat → Option Nat) (k : Nat) (g : Nat → Option Nat) : Nat → Nat → Option Nat := fun k' => if k' = k then g else f k'
def xR (S : XS) (k j : Nat) (v : Option Nat) : XS := (S.1, S.2.1, updR S.2.2.1 k (va_up (S.2.2.1 k) j v), S.2.2.2)
def updO (f : Nat → Option XO) (a : Nat) (x : XO) : Nat → Option XO := fun a' => if a' = a then some x else f a'
def xO (S : XS) (a : Nat) (x : XO) : XS := (S.1, S.2.1, S.2.2.1, updO S.2.2.2 a x)
def oI (x : XO) (k : Nat) (v : Int32) : XO := (x.1, upd x.2.1 k v, x.2.2)
def oR (x : XO) (k : Nat) (v : Option Nat) : XO := (x.1, x.2.1, va_up x.2.2.1 k v, x.2.2.2)
def getO (S : XS) (a t : Nat) : Option XO := (S.2.2.2 a).bind fun x => if x.1 = t then some x else none
theorem getO_some {S : XS} {a t : Nat} {x : XO} (h : getO S a t = some x) : S.2.2.2 a = some x ∧ x.1 = t := by
  unfold getO at h
  obtain ⟨y, h1, h2⟩ := ob h
  by_cases ht : y.1 = t
  · rw [if_pos ht] at h2; cases h2; exact ⟨h1, ht⟩
  · rw [if_neg ht] at h2; cases h2
theorem getO_eq {S : XS} {a t : Nat} {x : XO} (h : S.2.2.2 a = some x) (ht : x.1 = t) : getO S a t = some x := by
  unfold getO
  rw [h, Option.bind_some, if_pos ht]
def fvX (G : Nat → Nat) (S : XS) (k : Nat) : Value := if xKd k = 0 then .int (S.1 k) else if xKd k = 7 then va_rf (S.2.2.1 k 0) else .ref (G (k + 1))
def fsX (G : Nat → Nat) (S : XS) : List Value := (List.range 49).map (fvX G S)
def arX (κ : jK) (G : Nat → Nat) (S : XS) (k : Nat) : va_E := match xKd k with
  | 5 => .inl (jt κ (xJt k), xLn k, .inr (.inr (.inr (.inr (S.2.2.1 k)))))
  | 6 => .inr (ciX1, [.ref (G 50)])
  | _ => .inl (jt κ (xJt k), xLn k, .inl (S.2.1 k))
def fvO (G : Nat → Nat) (x : XO) (k : Nat) : Value := if oK x.1 k = 0 then .int (x.2.1 k) else if oK x.1 k = 1 then va_rf (x.2.2.1 k) else .ref (G 0)
def fsO (G : Nat → Nat) (x : XO) : List Value := (List.range (oN x.1)).map (fvO G x)
/-- tags from 64 on: objects as they are made, before their constructor (64 + the tag) -/
def rawF (t : Nat) : List Value := (List.range (oN t)).map fun k => if oK t k = 0 then .int 0 else .null
/-- tags from 30 on: arrays (30 byte, 31 short, 32 int, 33 long, 34 boolean) -/
def obE (κ : jK) (G : Nat → Nat) (x : XO) : va_E := if x.1 < 30 then .inr (oCi x.1, fsO G x) else if 64 ≤ x.1 then .inr (oCi (x.1 - 64), rawF (x.1 - 64)) else match x.1 with
  | 33 => .inl (jt κ 1, x.2.2.2.1, .inr (.inl x.2.2.2.2.2))
  | 30 => .inl (jt κ 3, x.2.2.2.1, .inl x.2.2.2.2.1)
  | 31 => .inl (jt κ 4, x.2.2.2.1, .inl x.2.2.2.2.1)
  | 34 => .inl (jt κ 2, x.2.2.2.1, .inl x.2.2.2.2.1)
  | _ => .inl (jt κ 0, x.2.2.2.1, .inl x.2.2.2.2.1)
def wX (κ : jK) (G : Nat → Nat) (S : XS) : jW := fun r => if r = 0 then some (G 0, .inr (ciX0, fsX G S)) else if r ≤ 50 then (if xKd (r - 1) = 0 ∨ xKd (r - 1) = 7 then none else some (G r, arX κ G S (r - 1))) else if r < 100 then none else (S.2.2.2 (r - 100)).map (fun x => (r - 100, obE κ G x))
theorem fsX_at (G : Nat → Nat) (S : XS) {k : Nat} (hk : k < 49) : (fsX G S)[k]? = some (fvX G S k) := by
  unfold fsX
  rw [List.getElem?_map, List.getElem?_range hk]
  rfl
theorem fsX_len (G : Nat → Nat) (S : XS) : (fsX G S).length = 49 := by simp [fsX]
theorem fsO_at (G : Nat → Nat) (x : XO) {k : Nat} (hk : k < oN x.1) : (fsO G x)[k]? = some (fvO G x k) := by
  unfold fsO
  rw [List.getElem?_map, List.getElem?_range hk]
  rfl
theorem fsO_len (G : Nat → Nat) (x : XO) : (fsO G x).length = oN x.1 := by simp [fsO]
theorem map_set {N k : Nat} {f g : Nat → Value} (v : Value) (h1 : g k = v) (h2 : ∀ i, i ≠ k → g i = f i) : ((List.range N).map f).set k v = (List.range N).map g := by
  apply List.ext_getElem?
  intro i
  rw [List.getElem?_set]
  by_cases hi : i < N
  · rw [List.getElem?_map, List.getElem?_map, List.getElem?_range hi]
    by_cases h : k = i
    · subst h
      rw [if_pos rfl, if_pos (by simpa using hi)]
      simp [h1]
    · rw [if_neg h]
      simp [h2 i (Ne.symm h)]
  · have e1 : ((List.range N).map f)[i]? = none := List.getElem?_eq_none (by simp; omega)
    have e2 : ((List.range N).map g)[i]? = none := List.getElem?_eq_none (by simp; omega)
    rw [e1, e2]
    by_cases h : k = i
    · subst h
      rw [if_pos rfl, if_neg (by simp; omega)]
    · rw [if_neg h]
theorem wX_sI (κ : jK) (G : Nat → Nat) (S : XS) {k : Nat} (hs : xKd k = 0) (v : Int32) : jset (wX κ G S) 0 (G 0, .inr (ciX0, (fsX G S).set k (.int v))) = wX κ G (xI S k v) := by
  have e : (fsX G S).set k (.int v) = fsX G (xI S k v) := by
    unfold fsX
    refine map_set _ ?_ ?_
    · simp [fvX, hs, xI, upd]
    · intro i hi
      simp only [fvX, xI, upd]
      rw [if_neg hi]
  rw [e]
  funext r
  unfold jset
  by_cases hr : r = 0
  · subst hr; rw [if_pos rfl]; rfl
  · rw [if_neg hr]
    simp only [wX, hr, if_false]
    rfl
theorem xKd7 : ∀ k, xKd k = 7 → k = 11 := by
  intro k h
  unfold xKd at h
  split at h <;> first | rfl | (exfalso; revert h; decide)
theorem wX_law (κ : jK) (G : Nat → Nat) (S : XS) (v : Option Nat) : jset (wX κ G S) 0 (G 0, .inr (ciX0, (fsX G S).set 11 (va_rf v))) = wX κ G (xR S 11 0 v) := by
  have e : (fsX G S).set 11 (va_rf v) = fsX G (xR S 11 0 v) := by
    unfold fsX
    refine map_set _ ?_ ?_
    · rfl
    · intro i hi
      unfold fvX xR updR
      by_cases h7 : xKd i = 7
      · exact absurd (xKd7 i h7) hi
      · simp [h7]
  rw [e]
  funext r
  unfold jset
  by_cases hr : r = 0
  · subst hr; rw [if_pos rfl]; rfl
  · rw [if_neg hr]
    simp only [wX, hr, if_false]
    by_cases h5 : r ≤ 50
    · rw [if_pos h5, if_pos h5]
      by_cases h6 : xKd (r - 1) = 0 ∨ xKd (r - 1) = 7
      · rw [if_pos h6, if_pos h6]
      · rw [if_neg h6, if_neg h6]
        have hk : r - 1 ≠ 11 := fun h => h6 (Or.inr (by rw [h]; rfl))
        simp only [arX, xR, updR, hk, if_false]
    · rw [if_neg h5, if_neg h5]
      rfl
theorem arX1 (κ : jK) (G : Nat → Nat) (S : XS) {k : Nat} (h : (xKd k == 1 || xKd k == 3 || xKd k == 4) = true) : arX κ G S k = .inl (jt κ (xJt k), xLn k, .inl (S.2.1 k)) := by
  unfold arX
  split
  · next h5 => rw [h5] at h; cases h
  · next h5 => rw [h5] at h; cases h
  · rfl
theorem arX5 (κ : jK) (G : Nat → Nat) (S : XS) {k : Nat} (h : xKd k = 5) : arX κ G S k = .inl (jt κ (xJt k), xLn k, .inr (.inr (.inr (.inr (S.2.2.1 k))))) := by
  unfold arX; rw [h]; rfl
theorem xKd_lt : ∀ k, (xKd k == 0) = false → k < 50 := by
  intro k h
  unfold xKd at h
  split at h <;> first | omega | (exfalso; revert h; decide)
theorem wX_ar (κ : jK) (G : Nat → Nat) (S : XS) {k : Nat} (h0 : (xKd k == 0) = false) (h7 : (xKd k == 7) = false) : wX κ G S (k + 1) = some (G (k + 1), arX κ G S k) := by
  have hk := xKd_lt k h0
  unfold wX
  rw [if_neg (by omega), if_pos (by omega), Nat.add_sub_cancel, if_neg]
  simp only [beq_eq_false_iff_ne, ne_eq] at h0 h7
  rintro (h | h)
  · exact h0 h
  · exact h7 h
theorem wX_ob (κ : jK) (G : Nat → Nat) (S : XS) {a : Nat} {x : XO} (h : S.2.2.2 a = some x) : wX κ G S (100 + a) = some (a, obE κ G x) := by
  unfold wX
  rw [if_neg (by omega), if_neg (by omega), if_neg (by omega), Nat.add_sub_cancel_left, h]
  rfl
theorem wX_sA (κ : jK) (G : Nat → Nat) (S : XS) {k : Nat} (h : (xKd k == 1 || xKd k == 3 || xKd k == 4) = true) (j : Nat) (v : Int32) : jset (wX κ G S) (k + 1) (G (k + 1), .inl (jt κ (xJt k), xLn k, .inl (upd (S.2.1 k) j v))) = wX κ G (xA S k j v) := by
  have h0 : (xKd k == 0) = false := by
    rcases hk : xKd k with _ | n
    · rw [hk] at h; cases h
    · rfl
  have h7 : (xKd k == 7) = false := by
    by_cases hk : xKd k = 7
    · rw [hk] at h; cases h
    · simpa using hk
  funext r
  unfold jset
  by_cases hr : r = k + 1
  · subst hr
    rw [if_pos rfl, wX_ar κ G _ h0 h7, arX1 κ G _ h]
    simp [xA, updA]
  · rw [if_neg hr]
    unfold wX
    by_cases hr0 : r = 0
    · rw [if_pos hr0, if_pos hr0]; rfl
    · rw [if_neg hr0, if_neg hr0]
      have hk : ¬ r - 1 = k := by omega
      simp only [arX, xA, updA, hk, if_false]
theorem wX_sR (κ : jK) (G : Nat → Nat) (S : XS) {k : Nat} (h : xKd k = 5) (j : Nat) (v : Option Nat) : jset (wX κ G S) (k + 1) (G (k + 1), .inl (jt κ (xJt k), xLn k, .inr (.inr (.inr (.inr (va_up (S.2.2.1 k) j v)))))) = wX κ G (xR S k j v) := by
  have h11 : k ≠ 11 := fun e => by rw [e] at h; revert h; decide
  funext r
  unfold jset
  by_cases hr : r = k + 1
  · subst hr
    rw [if_pos rfl, wX_ar κ G _ (by rw [h]; rfl) (by rw [h]; rfl), arX5 κ G _ h]
    simp [xR, updR]
  · rw [if_neg hr]
    unfold wX
    by_cases hr0 : r = 0
    · rw [if_pos hr0, if_pos hr0]
      congr 4
      unfold fsX
      apply List.map_congr_left
      intro i _
      unfold fvX xR updR
      by_cases h7 : xKd i = 7
      · have := xKd7 i h7
        subst this
        simp [Ne.symm h11]
      · simp [h7]
    · rw [if_neg hr0, if_neg hr0]
      have hk : ¬ r - 1 = k := by omega
      simp only [arX, xR, updR, hk, if_false]
theorem wX_sO (κ : jK) (G : Nat → Nat) (S : XS) (a : Nat) (x : XO) : jset (wX κ G S) (100 + a) (a, obE κ G x) = wX κ G (xO S a x) := by
  funext r
  unfold jset
  by_cases hr : r = 100 + a
  · subst hr
    rw [if_pos rfl, wX_ob κ G _ (x := x) (by simp [xO, updO])]
  · rw [if_neg hr]
    unfold wX
    by_cases hr0 : r = 0
    · rw [if_pos hr0, if_pos hr0]; rfl
    · rw [if_neg hr0, if_neg hr0]
      by_cases h5 : r ≤ 50
      · rw [if_pos h5, if_pos h5]; rfl
      · rw [if_neg h5, if_neg h5]
        by_cases h1 : r < 100
        · rw [if_pos h1, if_pos h1]
        · rw [if_neg h1, if_neg h1]
          have hk : ¬ r - 100 = a := by omega
          simp only [xO, updO, hk, if_false]
theorem fsO_I (G : Nat → Nat) (x : XO) {k : Nat} (h : oK x.1 k = 0) (v : Int32) : (fsO G x).set k (.int v) = fsO G (oI x k v) := by
  unfold fsO
  refine map_set _ ?_ ?_
  · simp [fvO, oI, h, upd]
  · intro i hi
    simp only [fvO, oI, upd]
    rw [if_neg hi]
    rfl
theorem fsO_R (G : Nat → Nat) (x : XO) {k : Nat} (h : oK x.1 k = 1) (v : Option Nat) : (fsO G x).set k (va_rf v) = fsO G (oR x k v) := by
  unfold fsO
  refine map_set _ ?_ ?_
  · simp [fvO, oR, h, va_up]
  · intro i hi
    simp only [fvO, oR, va_up]
    rw [if_neg hi]
    rfl
theorem obE_o {κ : jK} {G : Nat → Nat} {x : XO} {t : Nat} (ht : x.1 = t) (h : t < 30) : obE κ G x = .inr (oCi t, fsO G x) := by
  unfold obE; rw [if_pos (by rw [ht]; exact h), ht]
/-- words that don't ride in the lists -/
def nestW : Cond → Bool
  | .fieldLinkNest .. => true
  | .methodLinkNest .. => true
  | .castable .. => true
  | .declares .. => true
  | _ => false
/-- pairs of classes that the start says not castable -/
def jNcL : List (String × String) := [("NineKeysRound$Key", "NineKeysRound$ByteRow"), ("NineKeysRound$Key", "NineKeysRound$ShortRow"), ("NineKeysRound$Key", "NineKeysRound$IntRow"), ("NineKeysRound$Key", "NineKeysRound$LongRow"), ("NineKeysRound$Key", "NineKeysRound$BooleanRow"), ("NineKeysRound$Key", "NineKeysRound$Row"), ("NineKeysRound$Dent", "NineKeysRound$ByteRow"), ("NineKeysRound$Dent", "NineKeysRound$ShortRow"), ("NineKeysRound$Dent", "NineKeysRound$IntRow"), ("NineKeysRound$Dent", "NineKeysRound$LongRow"), ("NineKeysRound$Dent", "NineKeysRound$BooleanRow"), ("NineKeysRound$Dent", "NineKeysRound$Row"), ("NineKeysRound$Lamp", "NineKeysRound$ByteRow"), ("NineKeysRound$Lamp", "NineKeysRound$ShortRow"), ("NineKeysRound$Lamp", "NineKeysRound$IntRow"), ("NineKeysRound$Lamp", "NineKeysRound$LongRow"), ("NineKeysRound$Lamp", "NineKeysRound$BooleanRow"), ("NineKeysRound$Lamp", "NineKeysRound$Row"), ("NineKeysRound$Dog", "NineKeysRound$ByteRow"), ("NineKeysRound$Dog", "NineKeysRound$ShortRow"), ("NineKeysRound$Dog", "NineKeysRound$IntRow"), ("NineKeysRound$Dog", "NineKeysRound$LongRow"), ("NineKeysRound$Dog", "NineKeysRound$BooleanRow"), ("NineKeysRound$Dog", "NineKeysRound$Row"), ("NineKeysRound$Paper", "NineKeysRound$ByteRow"), ("NineKeysRound$Paper", "NineKeysRound$ShortRow"), ("NineKeysRound$Paper", "NineKeysRound$IntRow"), ("NineKeysRound$Paper", "NineKeysRound$LongRow"), ("NineKeysRound$Paper", "NineKeysRound$BooleanRow"), ("NineKeysRound$Paper", "NineKeysRound$Row"), ("NineKeysRound$Thief", "NineKeysRound$ByteRow"), ("NineKeysRound$Thief", "NineKeysRound$ShortRow"), ("NineKeysRound$Thief", "NineKeysRound$IntRow"), ("NineKeysRound$Thief", "NineKeysRound$LongRow"), ("NineKeysRound$Thief", "NineKeysRound$BooleanRow"), ("NineKeysRound$Thief", "NineKeysRound$Row"), ("NineKeysRound$Dice", "NineKeysRound$ByteRow"), ("NineKeysRound$Dice", "NineKeysRound$ShortRow"), ("NineKeysRound$Dice", "NineKeysRound$IntRow"), ("NineKeysRound$Dice", "NineKeysRound$LongRow"), ("NineKeysRound$Dice", "NineKeysRound$BooleanRow"), ("NineKeysRound$Dice", "NineKeysRound$Row"), ("NineKeysRound$Sleep", "NineKeysRound$ByteRow"), ("NineKeysRound$Sleep", "NineKeysRound$ShortRow"), ("NineKeysRound$Sleep", "NineKeysRound$IntRow"), ("NineKeysRound$Sleep", "NineKeysRound$LongRow"), ("NineKeysRound$Sleep", "NineKeysRound$BooleanRow"), ("NineKeysRound$Sleep", "NineKeysRound$Row"), ("NineKeysRound$ByteRow", "NineKeysRound$Key"), ("NineKeysRound$ShortRow", "NineKeysRound$Key"), ("NineKeysRound$IntRow", "NineKeysRound$Key"), ("NineKeysRound$LongRow", "NineKeysRound$Key"), ("NineKeysRound$BooleanRow", "NineKeysRound$Key"), ("NineKeysRound$ByteRow", "NineKeysRound$ShortRow"), ("NineKeysRound$ByteRow", "NineKeysRound$IntRow"), ("NineKeysRound$ByteRow", "NineKeysRound$LongRow"), ("NineKeysRound$ByteRow", "NineKeysRound$BooleanRow"), ("NineKeysRound$ShortRow", "NineKeysRound$ByteRow"), ("NineKeysRound$ShortRow", "NineKeysRound$IntRow"), ("NineKeysRound$ShortRow", "NineKeysRound$LongRow"), ("NineKeysRound$ShortRow", "NineKeysRound$BooleanRow"), ("NineKeysRound$IntRow", "NineKeysRound$ByteRow"), ("NineKeysRound$IntRow", "NineKeysRound$ShortRow"), ("NineKeysRound$IntRow", "NineKeysRound$LongRow"), ("NineKeysRound$IntRow", "NineKeysRound$BooleanRow"), ("NineKeysRound$LongRow", "NineKeysRound$ByteRow"), ("NineKeysRound$LongRow", "NineKeysRound$ShortRow"), ("NineKeysRound$LongRow", "NineKeysRound$IntRow"), ("NineKeysRound$LongRow", "NineKeysRound$BooleanRow"), ("NineKeysRound$BooleanRow", "NineKeysRound$ByteRow"), ("NineKeysRound$BooleanRow", "NineKeysRound$ShortRow"), ("NineKeysRound$BooleanRow", "NineKeysRound$IntRow"), ("NineKeysRound$BooleanRow", "NineKeysRound$LongRow"), ("java/lang/NullPointerException", "java/lang/ClassCastException"), ("java/lang/ClassCastException", "java/lang/NullPointerException"), ("java/lang/ArrayIndexOutOfBoundsException", "java/lang/ClassCastException"), ("java/lang/ArrayIndexOutOfBoundsException", "java/lang/NullPointerException")]
/-- interface calls by the receiver's class -/
def jFwL : List (String × MethodName × MethodName) := [("NineKeysRound$Dent", ⟨"NineKeysRound$Turns", "turnsIn", "(I)I"⟩, ⟨"NineKeysRound$Dent", "turnsIn", "(I)I"⟩), ("NineKeysRound$Dice", ⟨"NineKeysRound$Turns", "turnsIn", "(I)I"⟩, ⟨"NineKeysRound$Dice", "turnsIn", "(I)I"⟩), ("NineKeysRound$Dog", ⟨"NineKeysRound$Turns", "turnsIn", "(I)I"⟩, ⟨"NineKeysRound$Key", "turnsIn", "(I)I"⟩), ("NineKeysRound$Key", ⟨"NineKeysRound$Turns", "turnsIn", "(I)I"⟩, ⟨"NineKeysRound$Key", "turnsIn", "(I)I"⟩), ("NineKeysRound$Lamp", ⟨"NineKeysRound$Turns", "turnsIn", "(I)I"⟩, ⟨"NineKeysRound$Key", "turnsIn", "(I)I"⟩), ("NineKeysRound$Paper", ⟨"NineKeysRound$Turns", "turnsIn", "(I)I"⟩, ⟨"NineKeysRound$Dent", "turnsIn", "(I)I"⟩), ("NineKeysRound$Sleep", ⟨"NineKeysRound$Turns", "turnsIn", "(I)I"⟩, ⟨"NineKeysRound$Dent", "turnsIn", "(I)I"⟩), ("NineKeysRound$Thief", ⟨"NineKeysRound$Turns", "turnsIn", "(I)I"⟩, ⟨"NineKeysRound$Key", "turnsIn", "(I)I"⟩), ("NineKeysRound$Dent", ⟨"NineKeysRound$Tells", "tells", "(I)I"⟩, ⟨"NineKeysRound$Key", "tells", "(I)I"⟩), ("NineKeysRound$Dice", ⟨"NineKeysRound$Tells", "tells", "(I)I"⟩, ⟨"NineKeysRound$Key", "tells", "(I)I"⟩), ("NineKeysRound$Dog", ⟨"NineKeysRound$Tells", "tells", "(I)I"⟩, ⟨"NineKeysRound$Key", "tells", "(I)I"⟩), ("NineKeysRound$Key", ⟨"NineKeysRound$Tells", "tells", "(I)I"⟩, ⟨"NineKeysRound$Key", "tells", "(I)I"⟩), ("NineKeysRound$Lamp", ⟨"NineKeysRound$Tells", "tells", "(I)I"⟩, ⟨"NineKeysRound$Key", "tells", "(I)I"⟩), ("NineKeysRound$Paper", ⟨"NineKeysRound$Tells", "tells", "(I)I"⟩, ⟨"NineKeysRound$Key", "tells", "(I)I"⟩), ("NineKeysRound$Sleep", ⟨"NineKeysRound$Tells", "tells", "(I)I"⟩, ⟨"NineKeysRound$Sleep", "tells", "(I)I"⟩), ("NineKeysRound$Thief", ⟨"NineKeysRound$Tells", "tells", "(I)I"⟩, ⟨"NineKeysRound$Thief", "tells", "(I)I"⟩)]
def jNst (κ : jK) : Prop := ∀ s : State, κ.2.2.2.2.2 s → (∀ w ∈ lw_tbl, nestW w = true → va_Nw w s) ∧ modulesRight_1 s = true ∧ (∀ q ∈ jNcL, va_Nc q.1 q.2 s) ∧ ∀ q ∈ jFwL, va_Fw q.1 q.2.1 q.2.2 s
def jX (κ : jK) : Prop := jStd κ ∧ jNst κ
section XROWS0
variable {κ : jK} {Γ : jG} {σ : jS} {nL : Nat} {w : jW} {k n : Nat} {pc : Nat} {L : List (Option Value)} {st : List Value} {cc : ByteArray} {own : String} {ret : Option FieldType}
theorem jP1 {D : va_G} {cl : List vw_C} {w : jW} {H : Heap} {r : Nat} {q : Nat × va_E} (hP : jP D cl w H) (he : w r = some q) : va_P D cl [q] H := by
  intro i q' hq
  cases i with
  | zero => cases hq; exact hP r _ he
  | succ i => simp at hq
theorem j_getN (hN : jNst κ) (C : jC κ Γ cc nL own ret) {ref C' host : String} {T : u_T} {N ci index : Nat} (hin : ∀ w ∈ u_ws C' T N, w ∈ lw_all) (r : Nat) {a : Nat} {fs : List Value} (he : w r = some (a, .inr (ci, fs))) (hc : κ.2.2.1[ci]? = some (C', T, N)) (j : Nat) (hj : j < N) (hlink : Cond.fieldLinkNest own index ref (T j).2.1 (T j).2.2.1 host ∈ lw_tbl) (hrf : (T j).1 = ref) {v : Value} (hv : fs[j]? = some v) (hd : decode cc pc = .ok (.getfield index, 3)) (h : J κ Γ σ nL w k n (pc + 3) L (v :: st)) : J κ Γ σ nL w k n pc L (.ref a :: st) := by
  obtain ⟨p, e, s, m, args, below, meth, c, A⟩ := Γ
  obtain ⟨hx, hb, hml, hown, hts, hA, hK, hX, -⟩ := C
  intro H locs ls hP hD hS hl
  exact va_getN hx hb hts hin hown hK (jP1 hP he) 0 rfl hc j hj (va_Nw.use rfl ((hN s hX).1 _ hlink rfl)) (fun x hx => by rw [← hrf]; exact hx) hv hd (h H locs ls hP hD hS hl)
theorem j_putN (hN : jNst κ) (C : jC κ Γ cc nL own ret) {ref C' host : String} {T : u_T} {N ci index : Nat} (hin : ∀ w ∈ u_ws C' T N, w ∈ lw_all) (ty0 : Nat → FieldType) (hty : ∀ k, k < N → parseFieldDescriptor (T k).2.2.1 = some (ty0 k)) (hnm : ∀ a, a < N → ∀ b, b < N → a ≠ b → (T a).2.1 ≠ (T b).2.1) (r : Nat) {a : Nat} {fs : List Value} (he : w r = some (a, .inr (ci, fs))) (hc : κ.2.2.1[ci]? = some (C', T, N)) (j : Nat) (hj : j < N) (hlink : Cond.fieldLinkNest own index ref (T j).2.1 (T j).2.2.1 host ∈ lw_tbl) (hrf : (T j).1 = ref) (hfin : (T j).2.2.2 = false) {ty : FieldType} {v : Value} (hdd : ty0 j = ty) (hnar : narrow ty v = v) (hfit : fits ty v = true) (hlen : j < fs.length) (hd : decode cc pc = .ok (.putfield index, 3)) (h : J κ Γ σ nL (jset w r (a, .inr (ci, fs.set j v))) k n (pc + 3) L st) : J κ Γ σ nL w k n pc L (v :: .ref a :: st) := by
  obtain ⟨p, e, s, m, args, below, meth, c, A⟩ := Γ
  obtain ⟨hx, hb, hml, hown, hts, hA, hK, hX, -⟩ := C
  intro H locs ls hP hD hS hl
  subst hdd
  have hap := va_apart (own := own) hts hin ty0 hty hnm hK hc
  obtain ⟨r', h1, cell, q1, q2, q3, q4⟩ := hP r _ he
  have hr : r' = (C', T, N) := Option.some.inj (h1.symm.trans hc)
  subst hr
  obtain ⟨hS', hfc, kC, hkC, hkind⟩ := hK.1 ci _ hc
  obtain ⟨cf, kf, fi, f, hi, hsl⟩ := hS' j hj
  have hlay := hts _ (hin _ (u_in_lay hj))
  unfold u_lay at hlay
  rw [if_neg (by rw [hfin]; decide)] at hlay
  have hst := (u_facts hfc hkC (u_lays hts hin hj) hi).1
  have h6 := u_store hfc hkC hkind hlay hi (hty j hj) hnar hfit
  refine va_WputK hx hb (f := f) hown (va_Nw.use rfl ((hN s hX).1 _ hlink rfl)) (by rw [← hrf]; exact hi) hst (by rw [q2]; exact h6) q1 q3 (by rw [hsl]; exact k2_hasslot (q4 j hj)) rfl rfl hd fun H' e1 e2 e3 => ?_
  rw [hsl] at e1 ⊢
  exact h H' _ ls (hP.set hD he ⟨_, hc, t_OB.to (V := updV (vp_V fs) j v) ⟨_, e1, q2, q3, t_set q4 hap hj v⟩ (fun i _ => vp_updV_set hlen v i)⟩ e3) (hD.set he) (hS.put e2 e3 (hD.2 r _ he)) hl
theorem j_aald (C : jC κ Γ cc nL own ret) (r t0 : Nat) {a : Nat} {cA : ClassId} {N : Nat} {E : String} {f : Nat → Option Nat} {i : Int32} (he : w r = some (a, .inl (cA, N, .inr (.inr (.inr (.inr f)))))) (ht : κ.2.2.2.1[t0]? = some (cA, .object E)) (hin : vp_in i N) (hd : decode cc pc = .ok (.aaload, 1)) (h : J κ Γ σ nL w k n (pc + 1) L (va_rf (f i.toNatClampNeg) :: st)) : J κ Γ σ nL w k n pc L (.int i :: .ref a :: st) := by
  obtain ⟨p, e, s, m, args, below, meth, c, A⟩ := Γ
  obtain ⟨hx, hb, hml, hown, hts, hA, hK, hX, -⟩ := C
  intro H locs ls hP hD hS hl
  exact va_aldq hx hb hK (jP1 hP he) 0 t0 rfl ht hin hd (h H locs ls hP hD hS hl)
theorem j_callVH (hκ : jOK κ) (C : jC κ Γ cc nL own ret) {y : MethodName} {b2 : ByteArray} {maxL f mc ms index N : Nat} {r2 : Option FieldType} {hh : List (Nat × Nat × Nat × Nat)} {As : List Value} {a ci r : Nat} {fs : List Value} {q : vw_C} {post : Option Value → jW → Prop}
    (hM : jM κ y (wsW_ y b2 maxL r2 hh) f mc ms (.ref a :: As) w post) (hG : GoodIn lw_all (wsV own index y.cls y (wsW_ y b2 maxL r2 hh))) (hy : y.cls ≠ "java/lang/invoke/MethodHandle" ∧ y.cls ≠ "java/lang/invoke/VarHandle" ∧ (parseMethodDescriptor y.desc).map (fun d => d.parameters.length) = some N) (hn : As.length = N)
    (he : w r = some (a, .inr (ci, fs))) (hc : κ.2.2.1[ci]? = some q) (hq : q.1 = y.cls) (hd : decode cc pc = .ok (.invokevirtual index, 3)) (hfit : jfit σ f mc ms k n maxL st) {st0 : List Value} (hst : st0 = As.reverse ++ .ref a :: st)
    (h : ∀ (v : Option Value) (w' : jW), post v w' → J κ Γ σ nL w' (k + mc) (n + ms) (pc + 3) L (v.toList ++ st)) : J κ Γ σ nL w k n pc L st0 := by
  obtain ⟨p, e, s, m, args, below, meth, c, A⟩ := Γ
  intro H locs ls hP hD hS hl
  have hpre := j_pre hκ C hP hD hS (.ref a :: As)
  obtain ⟨hx, hb, hml, hown, hts, hA, hK, -⟩ := C
  obtain ⟨f1, f2, f3, f4, f5⟩ := hfit
  refine j_back hA hP hD hS hl (vx_runVW (C := y.cls) (As := As) (b := a) (rest := st) ⟨hx, hb, hml, hown, hts⟩ (hM H.size) (vx_cwVW N hts hG rfl rfl rfl ⟨rfl, hy⟩ ⟨f1, ?_⟩) ⟨hpre.1, ?_, hpre.2⟩ rfl hn hl.1 hst (lv_room f5) hd ⟨f3, f4⟩) h
  · show 8 + (maxL + 11) + 48 * f ≤ 48 * σ.1
    omega
  · obtain ⟨q', h1, cell, g1, g2, g3, -⟩ := hP r _ he
    have e2 : q' = q := Option.some.inj (h1.symm.trans hc)
    exact ⟨cell, g1, by rw [g3]; rfl, by rw [g2, ← hq, ← e2]; exact (hK.1 ci q' h1).2.1⟩
theorem j_aast (C : jC κ Γ cc nL own ret) (r t0 rv : Nat) {a : Nat} {cA : ClassId} {N v ci : Nat} {vs : List Value} {vc : vw_C} {f : Nat → Option Nat} {i : Int32} (he : w r = some (a, .inl (cA, N, .inr (.inr (.inr (.inr f)))))) (ht : κ.2.2.2.1[t0]? = some (cA, .object vc.1)) (hv : w rv = some (v, .inr (ci, vs))) (hc : κ.2.2.1[ci]? = some vc) (hin : vp_in i N) (hd : decode cc pc = .ok (.aastore, 1)) (h : J κ Γ σ nL (jset w r (a, .inl (cA, N, .inr (.inr (.inr (.inr (va_up f i.toNatClampNeg (some v)))))))) k n (pc + 1) L st) : J κ Γ σ nL w k n pc L (.ref v :: .int i :: .ref a :: st) := by
  obtain ⟨p, e, s, m, args, below, meth, c, A⟩ := Γ
  obtain ⟨hx, hb, hml, hown, hts, hA, hK, hX, -⟩ := C
  intro H locs ls hP hD hS hl
  have hlt : i.toNatClampNeg < N := Nat.not_le.mp fun q => hin (Or.inr q)
  have h0 : ¬ i < 0 := fun q => hin (Or.inl q)
  obtain ⟨r', hr', cellV, g1, g2, g3, -⟩ := hP rv _ hv
  have hcls := (hK.1 ci vc hc).2
  obtain ⟨kA, comp, k1, k2, k3, -⟩ := (hK.2 t0 _ ht).2
  have hcomp : comp = κ.2.1.1 ci := Option.some.inj (k3.symm.trans hcls.1)
  subst hcomp
  obtain ⟨kC, hkC, -⟩ := hcls.2
  refine W.aast hx hb (hP r _ he) (fun q h => by cases h) (fun h => by cases h) k1 k2 rfl hkC ⟨h0, by show _ < (arrV _ _ _).slots.size; rw [arrV_size]; exact hlt⟩ g1 (fun q h => by rw [g3] at h; cases h) (by rw [g2]; exact hkC) (by rw [g2]; exact va_assign hcls) rfl rfl hd fun H1 e z oq => ?_
  refine h H1 _ ls (hP.set hD he ?_ oq) (hD.set he) (hS.put z oq (hD.2 r _ he)) hl
  show H1[a]? = some (vp_cell _ _)
  rw [e]
  rw [vp_cell_q, vp_cell_q, arrV_store]
  congr 2
  funext q
  by_cases hq : q = i.toNatClampNeg
  · subst hq
    simp [updV, va_up, va_rf]
  · simp [updV, va_up, hq]
theorem j_ifnull (C : jC κ Γ cc nL own ret) {e : Option Nat} {off : Int} {tgt : Nat} (hd : decode cc pc = .ok (.ifnull off, 3)) (ht : (pc : Int) + off = (tgt : Int)) (kt : e = none → J κ Γ σ nL w k n tgt L st) (kf : ¬ e = none → J κ Γ σ nL w k n (pc + 3) L st) : J κ Γ σ nL w k n pc L (va_rf e :: st) := by
  obtain ⟨p, e', s, m, args, below, meth, c, A⟩ := Γ
  obtain ⟨hx, hb, hml, hown, hts, hA, hK, hX, -⟩ := C
  intro H locs ls hP hD hS hl
  cases e with
  | none => exact lv_ifnullN hx hb hd ht (kt rfl H locs ls hP hD hS hl)
  | some a => exact lv_ifnull hx hb hd (kf (by simp) H locs ls hP hD hS hl)
theorem j_ifnonnull (C : jC κ Γ cc nL own ret) {e : Option Nat} {off : Int} {tgt : Nat} (hd : decode cc pc = .ok (.ifnonnull off, 3)) (ht : (pc : Int) + off = (tgt : Int)) (kt : ¬ e = none → J κ Γ σ nL w k n tgt L st) (kf : e = none → J κ Γ σ nL w k n (pc + 3) L st) : J κ Γ σ nL w k n pc L (va_rf e :: st) := by
  obtain ⟨p, e', s, m, args, below, meth, c, A⟩ := Γ
  obtain ⟨hx, hb, hml, hown, hts, hA, hK, hX, -⟩ := C
  intro H locs ls hP hD hS hl
  cases e with
  | none => exact lv_ifnonnullN hx hb hd (kf rfl H locs ls hP hD hS hl)
  | some a => exact lv_ifnonnull hx hb hd ht (kt (by simp) H locs ls hP hD hS hl)
end XROWS0

section XROWS
variable {κ : jK} {Γ : jG} {σ : jS} {nL : Nat} {a b : Nat} {pc : Nat} {L : List (Option Value)} {st : List Value} {cc : ByteArray} {own : String} {ret : Option FieldType} {G : Nat → Nat} {T : XS}
theorem jX.cl {κ : jK} (h : jX κ) {i : Nat} {q : vw_C} (hq : jCl[i]? = some q) : κ.2.2.1[i]? = some q := by rw [h.1.2.1]; exact hq
theorem jX.ty {κ : jK} (h : jX κ) (t : Nat) {ty : FieldType} (ht : jTy[t]? = some ty) : κ.2.2.2.1[t]? = some (jt κ t, ty) := h.1.ty t ht
theorem jx_geti (hκ : jX κ) (C : jC κ Γ cc nL RX0 ret) (k : Nat) (hk : k < 49) (hs : xKd k = 0) {index : Nat} (hlink : Cond.fieldLink RX0 index (TX0 k).1 (TX0 k).2.1 (TX0 k).2.2.1 ∈ lw_all) (hd : decode cc pc = .ok (.getfield index, 3)) (h : J κ Γ σ nL (wX κ G T) a b (pc + 3) L (.int (T.1 k) :: st)) : J κ Γ σ nL (wX κ G T) a b pc L (.ref (G 0) :: st) :=
  j_get C in_X0 0 rfl (hκ.cl rfl) k hk hlink rfl (by rw [fsX_at G T hk]; unfold fvX; rw [if_pos hs]) hd h
theorem jx_geta (hκ : jX κ) (C : jC κ Γ cc nL RX0 ret) (k : Nat) (hk : k < 49) (h0 : (xKd k == 0) = false) (h7 : (xKd k == 7) = false) {index : Nat} (hlink : Cond.fieldLink RX0 index (TX0 k).1 (TX0 k).2.1 (TX0 k).2.2.1 ∈ lw_all) (hd : decode cc pc = .ok (.getfield index, 3)) (h : J κ Γ σ nL (wX κ G T) a b (pc + 3) L (.ref (G (k + 1)) :: st)) : J κ Γ σ nL (wX κ G T) a b pc L (.ref (G 0) :: st) :=
  j_get C in_X0 0 rfl (hκ.cl rfl) k hk hlink rfl (by rw [fsX_at G T hk]; unfold fvX; rw [if_neg (by simpa using h0), if_neg (by simpa using h7)]) hd h
theorem jx_getlaw (hκ : jX κ) (C : jC κ Γ cc nL RX0 ret) {index : Nat} (hlink : Cond.fieldLink RX0 index (TX0 11).1 (TX0 11).2.1 (TX0 11).2.2.1 ∈ lw_all) (hd : decode cc pc = .ok (.getfield index, 3)) (h : J κ Γ σ nL (wX κ G T) a b (pc + 3) L (va_rf (T.2.2.1 11 0) :: st)) : J κ Γ σ nL (wX κ G T) a b pc L (.ref (G 0) :: st) :=
  j_get C in_X0 0 rfl (hκ.cl rfl) 11 (by decide) hlink rfl (by rw [fsX_at G T (by decide)]; rfl) hd h
theorem jx_puti (hκ : jX κ) (C : jC κ Γ cc nL RX0 ret) (k : Nat) (hk : k < 49) (hs : xKd k = 0) (hfin : (TX0 k).2.2.2 = false) {index : Nat} {x : Int32} (hty : tyX0 k = .int) (hlink : Cond.fieldLink RX0 index (TX0 k).1 (TX0 k).2.1 (TX0 k).2.2.1 ∈ lw_all) (hd : decode cc pc = .ok (.putfield index, 3)) (h : J κ Γ σ nL (wX κ G (xI T k x)) a b (pc + 3) L st) : J κ Γ σ nL (wX κ G T) a b pc L (.int x :: .ref (G 0) :: st) :=
  j_put C in_X0 tyX0 tyX0_ok nmX0 0 rfl (hκ.cl rfl) k hk hlink rfl hfin hty rfl rfl (by rw [fsX_len]; exact hk) hd (by rw [wX_sI κ G T hs]; exact h)
theorem jx_putz (hκ : jX κ) (C : jC κ Γ cc nL RX0 ret) (k : Nat) (hk : k < 49) (hs : xKd k = 0) (hfin : (TX0 k).2.2.2 = false) {index : Nat} {x : Int32} (hty : tyX0 k = .boolean) (hz : narrow .boolean (.int x) = .int x) (hz2 : fits .boolean (.int x) = true) (hlink : Cond.fieldLink RX0 index (TX0 k).1 (TX0 k).2.1 (TX0 k).2.2.1 ∈ lw_all) (hd : decode cc pc = .ok (.putfield index, 3)) (h : J κ Γ σ nL (wX κ G (xI T k x)) a b (pc + 3) L st) : J κ Γ σ nL (wX κ G T) a b pc L (.int x :: .ref (G 0) :: st) :=
  j_put C in_X0 tyX0 tyX0_ok nmX0 0 rfl (hκ.cl rfl) k hk hlink rfl hfin hty hz hz2 (by rw [fsX_len]; exact hk) hd (by rw [wX_sI κ G T hs]; exact h)
theorem jx_putlaw (hκ : jX κ) (C : jC κ Γ cc nL RX0 ret) {index : Nat} {x : Option Nat} (hlink : Cond.fieldLink RX0 index (TX0 11).1 (TX0 11).2.1 (TX0 11).2.2.1 ∈ lw_all) (hd : decode cc pc = .ok (.putfield index, 3)) (h : J κ Γ σ nL (wX κ G (xR T 11 0 x)) a b (pc + 3) L st) : J κ Γ σ nL (wX κ G T) a b pc L (va_rf x :: .ref (G 0) :: st) :=
  j_put C in_X0 tyX0 tyX0_ok nmX0 0 rfl (hκ.cl rfl) 11 (by decide) hlink rfl rfl (ty := .object "NineKeysRound$Line") rfl (by cases x <;> rfl) (by cases x <;> rfl) (by rw [fsX_len]; decide) hd (by rw [wX_law κ G T]; exact h)

theorem jx_iald (hκ : jX κ) (C : jC κ Γ cc nL own ret) (k : Nat) (hs : xKd k = 1) (ht : xJt k = 0) {i : Int32} (hin : vp_in i (xLn k)) (hd : decode cc pc = .ok (.iaload, 1)) (h : J κ Γ σ nL (wX κ G T) a b (pc + 1) L (.int (T.2.1 k i.toNatClampNeg) :: st)) : J κ Γ σ nL (wX κ G T) a b pc L (.int i :: .ref (G (k + 1)) :: st) :=
  j_iald C (k + 1) 0 (by rw [wX_ar κ G T (by rw [hs]; rfl) (by rw [hs]; rfl), arX1 κ G T (by rw [hs]; rfl), ht]) (hκ.ty 0 rfl) hin hd h
theorem jx_ialdK (hκ : jX κ) (C : jC κ Γ cc nL own ret) (k j : Nat) (hs : xKd k = 1) (ht : xJt k = 0) {i : Int32} (hi : i.toNatClampNeg = j) (hin : vp_in i (xLn k)) (hd : decode cc pc = .ok (.iaload, 1)) (h : J κ Γ σ nL (wX κ G T) a b (pc + 1) L (.int (T.2.1 k j) :: st)) : J κ Γ σ nL (wX κ G T) a b pc L (.int i :: .ref (G (k + 1)) :: st) :=
  jx_iald hκ C k hs ht hin hd (by rw [hi]; exact h)
theorem jx_bald (hκ : jX κ) (C : jC κ Γ cc nL own ret) (k : Nat) (hs : xKd k = 4) (ht : xJt k = 3) {i : Int32} (hin : vp_in i (xLn k)) (hd : decode cc pc = .ok (.baload, 1)) (h : J κ Γ σ nL (wX κ G T) a b (pc + 1) L (.int (T.2.1 k i.toNatClampNeg) :: st)) : J κ Γ σ nL (wX κ G T) a b pc L (.int i :: .ref (G (k + 1)) :: st) :=
  j_bald C (k + 1) 3 (by rw [wX_ar κ G T (by rw [hs]; rfl) (by rw [hs]; rfl), arX1 κ G T (by rw [hs]; rfl), ht]) (hκ.ty 3 rfl) hin hd h
theorem jx_baldK (hκ : jX κ) (C : jC κ Γ cc nL own ret) (k j : Nat) (hs : xKd k = 4) (ht : xJt k = 3) {i : Int32} (hi : i.toNatClampNeg = j) (hin : vp_in i (xLn k)) (hd : decode cc pc = .ok (.baload, 1)) (h : J κ Γ σ nL (wX κ G T) a b (pc + 1) L (.int (T.2.1 k j) :: st)) : J κ Γ σ nL (wX κ G T) a b pc L (.int i :: .ref (G (k + 1)) :: st) :=
  jx_bald hκ C k hs ht hin hd (by rw [hi]; exact h)
theorem jx_zald (hκ : jX κ) (C : jC κ Γ cc nL own ret) (k : Nat) (hs : xKd k = 3) (ht : xJt k = 2) {i : Int32} (hin : vp_in i (xLn k)) (hd : decode cc pc = .ok (.baload, 1)) (h : J κ Γ σ nL (wX κ G T) a b (pc + 1) L (.int (T.2.1 k i.toNatClampNeg) :: st)) : J κ Γ σ nL (wX κ G T) a b pc L (.int i :: .ref (G (k + 1)) :: st) :=
  j_zald C (k + 1) 2 (by rw [wX_ar κ G T (by rw [hs]; rfl) (by rw [hs]; rfl), arX1 κ G T (by rw [hs]; rfl), ht]) (hκ.ty 2 rfl) hin hd h
theorem jx_zaldK (hκ : jX κ) (C : jC κ Γ cc nL own ret) (k j : Nat) (hs : xKd k = 3) (ht : xJt k = 2) {i : Int32} (hi : i.toNatClampNeg = j) (hin : vp_in i (xLn k)) (hd : decode cc pc = .ok (.baload, 1)) (h : J κ Γ σ nL (wX κ G T) a b (pc + 1) L (.int (T.2.1 k j) :: st)) : J κ Γ σ nL (wX κ G T) a b pc L (.int i :: .ref (G (k + 1)) :: st) :=
  jx_zald hκ C k hs ht hin hd (by rw [hi]; exact h)
theorem jx_iast (hκ : jX κ) (C : jC κ Γ cc nL own ret) (k : Nat) (hs : xKd k = 1) (ht : xJt k = 0) {i x : Int32} (hin : vp_in i (xLn k)) (hd : decode cc pc = .ok (.iastore, 1)) (h : J κ Γ σ nL (wX κ G (xA T k i.toNatClampNeg x)) a b (pc + 1) L st) : J κ Γ σ nL (wX κ G T) a b pc L (.int x :: .int i :: .ref (G (k + 1)) :: st) :=
  j_iast C (k + 1) 0 (by rw [wX_ar κ G T (by rw [hs]; rfl) (by rw [hs]; rfl), arX1 κ G T (by rw [hs]; rfl), ht]) (hκ.ty 0 rfl) hin hd (by rw [← ht, wX_sA κ G T (by rw [hs]; rfl)]; exact h)
theorem jx_bast (hκ : jX κ) (C : jC κ Γ cc nL own ret) (k : Nat) (hs : xKd k = 4) (ht : xJt k = 3) {i x : Int32} (hin : vp_in i (xLn k)) (hd : decode cc pc = .ok (.bastore, 1)) (h : J κ Γ σ nL (wX κ G (xA T k i.toNatClampNeg (vp_nar .byte x))) a b (pc + 1) L st) : J κ Γ σ nL (wX κ G T) a b pc L (.int x :: .int i :: .ref (G (k + 1)) :: st) :=
  j_bast C (k + 1) 3 (by rw [wX_ar κ G T (by rw [hs]; rfl) (by rw [hs]; rfl), arX1 κ G T (by rw [hs]; rfl), ht]) (hκ.ty 3 rfl) hin hd (by rw [← ht, wX_sA κ G T (by rw [hs]; rfl)]; exact h)
theorem jx_zast (hκ : jX κ) (C : jC κ Γ cc nL own ret) (k : Nat) (hs : xKd k = 3) (ht : xJt k = 2) {i x : Int32} (hin : vp_in i (xLn k)) (hd : decode cc pc = .ok (.bastore, 1)) (h : J κ Γ σ nL (wX κ G (xA T k i.toNatClampNeg (vp_nar .boolean x))) a b (pc + 1) L st) : J κ Γ σ nL (wX κ G T) a b pc L (.int x :: .int i :: .ref (G (k + 1)) :: st) :=
  j_zast C (k + 1) 2 (by rw [wX_ar κ G T (by rw [hs]; rfl) (by rw [hs]; rfl), arX1 κ G T (by rw [hs]; rfl), ht]) (hκ.ty 2 rfl) hin hd (by rw [← ht, wX_sA κ G T (by rw [hs]; rfl)]; exact h)
theorem jx_iastK (hκ : jX κ) (C : jC κ Γ cc nL own ret) (k j : Nat) (hs : xKd k = 1) (ht : xJt k = 0) {i x : Int32} (hi : i.toNatClampNeg = j) (hin : vp_in i (xLn k)) (hd : decode cc pc = .ok (.iastore, 1)) (h : J κ Γ σ nL (wX κ G (xA T k j x)) a b (pc + 1) L st) : J κ Γ σ nL (wX κ G T) a b pc L (.int x :: .int i :: .ref (G (k + 1)) :: st) :=
  jx_iast hκ C k hs ht hin hd (by rw [hi]; exact h)
theorem jx_bastB (hκ : jX κ) (C : jC κ Γ cc nL own ret) (k : Nat) (hs : xKd k = 4) (ht : xJt k = 3) {i x : Int32} (hin : vp_in i (xLn k)) (hd : decode cc pc = .ok (.bastore, 1)) (h : J κ Γ σ nL (wX κ G (xA T k i.toNatClampNeg x.toInt8.toInt32)) a b (pc + 1) L st) : J κ Γ σ nL (wX κ G T) a b pc L (.int x.toInt8.toInt32 :: .int i :: .ref (G (k + 1)) :: st) :=
  jx_bast hκ C k hs ht hin hd (by rw [pk_vb]; exact h)
theorem jx_zastB (hκ : jX κ) (C : jC κ Γ cc nL own ret) (k : Nat) (hs : xKd k = 3) (ht : xJt k = 2) {i : Int32} (x : Bool) (hin : vp_in i (xLn k)) (hd : decode cc pc = .ok (.bastore, 1)) (h : J κ Γ σ nL (wX κ G (xA T k i.toNatClampNeg (b2i x))) a b (pc + 1) L st) : J κ Γ σ nL (wX κ G T) a b pc L (.int (b2i x) :: .int i :: .ref (G (k + 1)) :: st) :=
  jx_zast hκ C k hs ht hin hd (by rw [vp_nar_b2i]; exact h)
theorem jx_aald (hκ : jX κ) (C : jC κ Γ cc nL own ret) (k : Nat) (hs : xKd k = 5) {E : String} (hty : jTy[xJt k]? = some (.object E)) {i : Int32} (hin : vp_in i (xLn k)) (hd : decode cc pc = .ok (.aaload, 1)) (h : J κ Γ σ nL (wX κ G T) a b (pc + 1) L (va_rf (T.2.2.1 k i.toNatClampNeg) :: st)) : J κ Γ σ nL (wX κ G T) a b pc L (.int i :: .ref (G (k + 1)) :: st) :=
  j_aald C (k + 1) (xJt k) (by rw [wX_ar κ G T (by rw [hs]; rfl) (by rw [hs]; rfl), arX5 κ G T hs]) (hκ.ty _ hty) hin hd h
theorem jx_aaldP (hκ : jX κ) (C : jC κ Γ cc nL own ret) (k : Nat) (hs : xKd k = 5) {E : String} (hty : jTy[xJt k]? = some (.object E)) {i : Int32} {q : Nat} (hin : vp_in i (xLn k)) (hq : T.2.2.1 k i.toNatClampNeg = some q) (hd : decode cc pc = .ok (.aaload, 1)) (h : J κ Γ σ nL (wX κ G T) a b (pc + 1) L (.ref q :: st)) : J κ Γ σ nL (wX κ G T) a b pc L (.int i :: .ref (G (k + 1)) :: st) :=
  jx_aald hκ C k hs hty hin hd (by rw [hq]; exact h)
theorem wX_obt {x : XO} {q t : Nat} (hx : getO T q t = some x) (ht : t < 30) : wX κ G T (100 + q) = some (q, .inr (oCi t, fsO G x)) := by
  rw [wX_ob κ G T (getO_some hx).1, obE_o (getO_some hx).2 ht]
theorem fsO_i {x : XO} {q t j : Nat} (hx : getO T q t = some x) (hj : j < oN t) (hk : oK t j = 0) : (fsO G x)[j]? = some (.int (x.2.1 j)) := by
  have ht := (getO_some hx).2
  rw [fsO_at G x (by rw [ht]; exact hj)]
  unfold fvO
  rw [if_pos (by rw [ht]; exact hk)]
theorem fsO_r {x : XO} {q t j : Nat} (hx : getO T q t = some x) (hj : j < oN t) (hk : oK t j = 1) : (fsO G x)[j]? = some (va_rf (x.2.2.1 j)) := by
  have ht := (getO_some hx).2
  rw [fsO_at G x (by rw [ht]; exact hj)]
  unfold fvO
  rw [if_neg (by rw [ht, hk]; decide), if_pos (by rw [ht]; exact hk)]
theorem fsO_t {x : XO} {q t j : Nat} (hx : getO T q t = some x) (hj : j < oN t) (hk : oK t j = 2) : (fsO G x)[j]? = some (.ref (G 0)) := by
  have ht := (getO_some hx).2
  rw [fsO_at G x (by rw [ht]; exact hj)]
  unfold fvO
  rw [if_neg (by rw [ht, hk]; decide), if_neg (by rw [ht, hk]; decide)]
/-- naming -/
theorem jx_nmT {w : XS} {α : Type} {r : α} {f : XS → Option α} (h : nm w f = some r) (K : ∀ T : XS, f T = some r → J κ Γ σ nL (wX κ G T) a b pc L st) : J κ Γ σ nL (wX κ G w) a b pc L st := K w h

theorem jx_V (hκ : jX κ) (C : jC κ Γ cc nL RX0 ret) {y : MethodName} {b2 : ByteArray} {maxL f index N : Nat} {r2 : Option FieldType} {As : List Value} {x : Option Value} {T' : XS}
    (hM : jM κ y (ws_ y b2 maxL r2) f 0 0 (.ref (G 0) :: As) (wX κ G T) (fun v u => v = x ∧ u = wX κ G T')) (hG : GoodIn lw_all (wsV RX0 index y.cls y (ws_ y b2 maxL r2))) (hy : y.cls ≠ "java/lang/invoke/MethodHandle" ∧ y.cls ≠ "java/lang/invoke/VarHandle" ∧ (parseMethodDescriptor y.desc).map (fun d => d.parameters.length) = some N) (hn : As.length = N) (hq : RX0 = y.cls) (hd : decode cc pc = .ok (.invokevirtual index, 3)) (hfit : jfit σ f 0 0 a b maxL st) {st0 : List Value} (hst : st0 = As.reverse ++ .ref (G 0) :: st)
    (h : J κ Γ σ nL (wX κ G T') a b (pc + 3) L (x.toList ++ st)) : J κ Γ σ nL (wX κ G T) a b pc L st0 :=
  j_V hκ.1.1 C hM hG hy hn (r := 0) rfl (ci := ciX0) (q := (RX0, TX0, 49)) (hκ.cl rfl) hq hd hfit hst h
theorem jx_Vi (hκ : jX κ) (C : jC κ Γ cc nL RX0 ret) {y : MethodName} {b2 : ByteArray} {maxL f index N : Nat} {r2 : Option FieldType} {As : List Value} {x : Int32} {T' : XS}
    (hM : jM κ y (ws_ y b2 maxL r2) f 0 0 (.ref (G 0) :: As) (wX κ G T) (fun v u => v = (some (.int x)) ∧ u = wX κ G T')) (hG : GoodIn lw_all (wsV RX0 index y.cls y (ws_ y b2 maxL r2))) (hy : y.cls ≠ "java/lang/invoke/MethodHandle" ∧ y.cls ≠ "java/lang/invoke/VarHandle" ∧ (parseMethodDescriptor y.desc).map (fun d => d.parameters.length) = some N) (hn : As.length = N) (hq : RX0 = y.cls) (hd : decode cc pc = .ok (.invokevirtual index, 3)) (hfit : jfit σ f 0 0 a b maxL st) {st0 : List Value} (hst : st0 = As.reverse ++ .ref (G 0) :: st)
    (h : J κ Γ σ nL (wX κ G T') a b (pc + 3) L (.int x :: st)) : J κ Γ σ nL (wX κ G T) a b pc L st0 :=
  j_V hκ.1.1 C hM hG hy hn (r := 0) rfl (ci := ciX0) (q := (RX0, TX0, 49)) (hκ.cl rfl) hq hd hfit hst h
theorem jx_Vl (hκ : jX κ) (C : jC κ Γ cc nL RX0 ret) {y : MethodName} {b2 : ByteArray} {maxL f index N : Nat} {r2 : Option FieldType} {As : List Value} {x : Int64} {T' : XS}
    (hM : jM κ y (ws_ y b2 maxL r2) f 0 0 (.ref (G 0) :: As) (wX κ G T) (fun v u => v = (some (.long x)) ∧ u = wX κ G T')) (hG : GoodIn lw_all (wsV RX0 index y.cls y (ws_ y b2 maxL r2))) (hy : y.cls ≠ "java/lang/invoke/MethodHandle" ∧ y.cls ≠ "java/lang/invoke/VarHandle" ∧ (parseMethodDescriptor y.desc).map (fun d => d.parameters.length) = some N) (hn : As.length = N) (hq : RX0 = y.cls) (hd : decode cc pc = .ok (.invokevirtual index, 3)) (hfit : jfit σ f 0 0 a b maxL st) {st0 : List Value} (hst : st0 = As.reverse ++ .ref (G 0) :: st)
    (h : J κ Γ σ nL (wX κ G T') a b (pc + 3) L (.long x :: st)) : J κ Γ σ nL (wX κ G T) a b pc L st0 :=
  j_V hκ.1.1 C hM hG hy hn (r := 0) rfl (ci := ciX0) (q := (RX0, TX0, 49)) (hκ.cl rfl) hq hd hfit hst h
theorem jx_Vv (hκ : jX κ) (C : jC κ Γ cc nL RX0 ret) {y : MethodName} {b2 : ByteArray} {maxL f index N : Nat} {r2 : Option FieldType} {As : List Value}  {T' : XS}
    (hM : jM κ y (ws_ y b2 maxL r2) f 0 0 (.ref (G 0) :: As) (wX κ G T) (fun v u => v = none ∧ u = wX κ G T')) (hG : GoodIn lw_all (wsV RX0 index y.cls y (ws_ y b2 maxL r2))) (hy : y.cls ≠ "java/lang/invoke/MethodHandle" ∧ y.cls ≠ "java/lang/invoke/VarHandle" ∧ (parseMethodDescriptor y.desc).map (fun d => d.parameters.length) = some N) (hn : As.length = N) (hq : RX0 = y.cls) (hd : decode cc pc = .ok (.invokevirtual index, 3)) (hfit : jfit σ f 0 0 a b maxL st) {st0 : List Value} (hst : st0 = As.reverse ++ .ref (G 0) :: st)
    (h : J κ Γ σ nL (wX κ G T') a b (pc + 3) L (st)) : J κ Γ σ nL (wX κ G T) a b pc L st0 :=
  j_V hκ.1.1 C hM hG hy hn (r := 0) rfl (ci := ciX0) (q := (RX0, TX0, 49)) (hκ.cl rfl) hq hd hfit hst h

theorem jx_Oi (hκ : jX κ) (C : jC κ Γ cc nL own ret) {y : MethodName} {b2 : ByteArray} {maxL f index N : Nat} {r2 : Option FieldType} {As : List Value} {x : Int32} {T' : XS} {t q : Nat} {xo : XO} {vc : vw_C}
    (hM : jM κ y (ws_ y b2 maxL r2) f 0 0 (.ref q :: As) (wX κ G T) (fun v u => v = (some (.int x)) ∧ u = wX κ G T')) (hG : GoodIn lw_all (wsV own index y.cls y (ws_ y b2 maxL r2))) (hy : y.cls ≠ "java/lang/invoke/MethodHandle" ∧ y.cls ≠ "java/lang/invoke/VarHandle" ∧ (parseMethodDescriptor y.desc).map (fun d => d.parameters.length) = some N) (hn : As.length = N) (hx : getO T q t = some xo) (ht : t < 30) (hc : jCl[oCi t]? = some vc) (hq : vc.1 = y.cls) (hd : decode cc pc = .ok (.invokevirtual index, 3)) (hfit : jfit σ f 0 0 a b maxL st) {st0 : List Value} (hst : st0 = As.reverse ++ .ref q :: st)
    (h : J κ Γ σ nL (wX κ G T') a b (pc + 3) L (.int x :: st)) : J κ Γ σ nL (wX κ G T) a b pc L st0 :=
  j_V hκ.1.1 C hM hG hy hn (r := 100 + q) (wX_obt hx ht) (hκ.cl hc) hq hd hfit hst h
theorem jx_Ol (hκ : jX κ) (C : jC κ Γ cc nL own ret) {y : MethodName} {b2 : ByteArray} {maxL f index N : Nat} {r2 : Option FieldType} {As : List Value} {x : Int64} {T' : XS} {t q : Nat} {xo : XO} {vc : vw_C}
    (hM : jM κ y (ws_ y b2 maxL r2) f 0 0 (.ref q :: As) (wX κ G T) (fun v u => v = (some (.long x)) ∧ u = wX κ G T')) (hG : GoodIn lw_all (wsV own index y.cls y (ws_ y b2 maxL r2))) (hy : y.cls ≠ "java/lang/invoke/MethodHandle" ∧ y.cls ≠ "java/lang/invoke/VarHandle" ∧ (parseMethodDescriptor y.desc).map (fun d => d.parameters.length) = some N) (hn : As.length = N) (hx : getO T q t = some xo) (ht : t < 30) (hc : jCl[oCi t]? = some vc) (hq : vc.1 = y.cls) (hd : decode cc pc = .ok (.invokevirtual index, 3)) (hfit : jfit σ f 0 0 a b maxL st) {st0 : List Value} (hst : st0 = As.reverse ++ .ref q :: st)
    (h : J κ Γ σ nL (wX κ G T') a b (pc + 3) L (.long x :: st)) : J κ Γ σ nL (wX κ G T) a b pc L st0 :=
  j_V hκ.1.1 C hM hG hy hn (r := 100 + q) (wX_obt hx ht) (hκ.cl hc) hq hd hfit hst h
theorem jx_Ov (hκ : jX κ) (C : jC κ Γ cc nL own ret) {y : MethodName} {b2 : ByteArray} {maxL f index N : Nat} {r2 : Option FieldType} {As : List Value}  {T' : XS} {t q : Nat} {xo : XO} {vc : vw_C}
    (hM : jM κ y (ws_ y b2 maxL r2) f 0 0 (.ref q :: As) (wX κ G T) (fun v u => v = none ∧ u = wX κ G T')) (hG : GoodIn lw_all (wsV own index y.cls y (ws_ y b2 maxL r2))) (hy : y.cls ≠ "java/lang/invoke/MethodHandle" ∧ y.cls ≠ "java/lang/invoke/VarHandle" ∧ (parseMethodDescriptor y.desc).map (fun d => d.parameters.length) = some N) (hn : As.length = N) (hx : getO T q t = some xo) (ht : t < 30) (hc : jCl[oCi t]? = some vc) (hq : vc.1 = y.cls) (hd : decode cc pc = .ok (.invokevirtual index, 3)) (hfit : jfit σ f 0 0 a b maxL st) {st0 : List Value} (hst : st0 = As.reverse ++ .ref q :: st)
    (h : J κ Γ σ nL (wX κ G T') a b (pc + 3) L (st)) : J κ Γ σ nL (wX κ G T) a b pc L st0 :=
  j_V hκ.1.1 C hM hG hy hn (r := 100 + q) (wX_obt hx ht) (hκ.cl hc) hq hd hfit hst h
theorem jx_Wi (hκ : jX κ) (C : jC κ Γ cc nL RX0 ret) {y : MethodName} {b2 : ByteArray} {maxL f mc ms index N : Nat} {r2 : Option FieldType} {As : List Value} {x : Int32} {T' : XS}
    (hM : jM κ y (ws_ y b2 maxL r2) f mc ms (.ref (G 0) :: As) (wX κ G T) (fun v u => v = (some (.int x)) ∧ u = wX κ G T')) (hG : GoodIn lw_all (wsV RX0 index y.cls y (ws_ y b2 maxL r2))) (hy : y.cls ≠ "java/lang/invoke/MethodHandle" ∧ y.cls ≠ "java/lang/invoke/VarHandle" ∧ (parseMethodDescriptor y.desc).map (fun d => d.parameters.length) = some N) (hn : As.length = N) (hq : RX0 = y.cls) (hd : decode cc pc = .ok (.invokevirtual index, 3)) (hfit : jfit σ f mc ms a b maxL st) {st0 : List Value} (hst : st0 = As.reverse ++ .ref (G 0) :: st)
    (h : J κ Γ σ nL (wX κ G T') (a + mc) (b + ms) (pc + 3) L (.int x :: st)) : J κ Γ σ nL (wX κ G T) a b pc L st0 :=
  j_callV hκ.1.1 C hM hG hy hn (r := 0) rfl (ci := ciX0) (q := (RX0, TX0, 49)) (hκ.cl rfl) hq hd hfit hst (fun v u hp => by obtain ⟨rfl, rfl⟩ := hp; exact h)
theorem jx_Hi (hκ : jX κ) (C : jC κ Γ cc nL RX0 ret) {y : MethodName} {b2 : ByteArray} {maxL f mc ms index N : Nat} {r2 : Option FieldType} {hh : List (Nat × Nat × Nat × Nat)} {As : List Value} {x : Int32} {T' : XS}
    (hM : jM κ y (wsW_ y b2 maxL r2 hh) f mc ms (.ref (G 0) :: As) (wX κ G T) (fun v u => v = (some (.int x)) ∧ u = wX κ G T')) (hG : GoodIn lw_all (wsV RX0 index y.cls y (wsW_ y b2 maxL r2 hh))) (hy : y.cls ≠ "java/lang/invoke/MethodHandle" ∧ y.cls ≠ "java/lang/invoke/VarHandle" ∧ (parseMethodDescriptor y.desc).map (fun d => d.parameters.length) = some N) (hn : As.length = N) (hq : RX0 = y.cls) (hd : decode cc pc = .ok (.invokevirtual index, 3)) (hfit : jfit σ f mc ms a b maxL st) {st0 : List Value} (hst : st0 = As.reverse ++ .ref (G 0) :: st)
    (h : J κ Γ σ nL (wX κ G T') (a + mc) (b + ms) (pc + 3) L (.int x :: st)) : J κ Γ σ nL (wX κ G T) a b pc L st0 :=
  j_callVH hκ.1.1 C hM hG hy hn (r := 0) rfl (ci := ciX0) (q := (RX0, TX0, 49)) (hκ.cl rfl) hq hd hfit hst (fun v u hp => by obtain ⟨rfl, rfl⟩ := hp; exact h)
theorem jx_Fi (hκ : jX κ) (C : jC κ Γ cc nL own ret) {y : MethodName} {b2 : ByteArray} {maxL f index N : Nat} {r2 : Option FieldType} {As : List Value} {x : Int32} {T' : XS}
    (hM : jM κ y (ws_ y b2 maxL r2) f 0 0 (.ref (G 13) :: As) (wX κ G T) (fun v u => v = (some (.int x)) ∧ u = wX κ G T')) (hG : GoodIn lw_all (wsV own index y.cls y (ws_ y b2 maxL r2))) (hy : y.cls ≠ "java/lang/invoke/MethodHandle" ∧ y.cls ≠ "java/lang/invoke/VarHandle" ∧ (parseMethodDescriptor y.desc).map (fun d => d.parameters.length) = some N) (hn : As.length = N) (hq : RX1 = y.cls) (hd : decode cc pc = .ok (.invokevirtual index, 3)) (hfit : jfit σ f 0 0 a b maxL st) {st0 : List Value} (hst : st0 = As.reverse ++ .ref (G 13) :: st)
    (h : J κ Γ σ nL (wX κ G T') a b (pc + 3) L (.int x :: st)) : J κ Γ σ nL (wX κ G T) a b pc L st0 :=
  j_V hκ.1.1 C hM hG hy hn (r := 13) (wX_ar κ G T (k := 12) rfl rfl) (ci := ciX1) (q := (RX1, TX1, 1)) (hκ.cl rfl) hq hd hfit hst h
theorem jx_Wl (hκ : jX κ) (C : jC κ Γ cc nL RX0 ret) {y : MethodName} {b2 : ByteArray} {maxL f mc ms index N : Nat} {r2 : Option FieldType} {As : List Value} {x : Int64} {T' : XS}
    (hM : jM κ y (ws_ y b2 maxL r2) f mc ms (.ref (G 0) :: As) (wX κ G T) (fun v u => v = (some (.long x)) ∧ u = wX κ G T')) (hG : GoodIn lw_all (wsV RX0 index y.cls y (ws_ y b2 maxL r2))) (hy : y.cls ≠ "java/lang/invoke/MethodHandle" ∧ y.cls ≠ "java/lang/invoke/VarHandle" ∧ (parseMethodDescriptor y.desc).map (fun d => d.parameters.length) = some N) (hn : As.length = N) (hq : RX0 = y.cls) (hd : decode cc pc = .ok (.invokevirtual index, 3)) (hfit : jfit σ f mc ms a b maxL st) {st0 : List Value} (hst : st0 = As.reverse ++ .ref (G 0) :: st)
    (h : J κ Γ σ nL (wX κ G T') (a + mc) (b + ms) (pc + 3) L (.long x :: st)) : J κ Γ σ nL (wX κ G T) a b pc L st0 :=
  j_callV hκ.1.1 C hM hG hy hn (r := 0) rfl (ci := ciX0) (q := (RX0, TX0, 49)) (hκ.cl rfl) hq hd hfit hst (fun v u hp => by obtain ⟨rfl, rfl⟩ := hp; exact h)
theorem jx_Hl (hκ : jX κ) (C : jC κ Γ cc nL RX0 ret) {y : MethodName} {b2 : ByteArray} {maxL f mc ms index N : Nat} {r2 : Option FieldType} {hh : List (Nat × Nat × Nat × Nat)} {As : List Value} {x : Int64} {T' : XS}
    (hM : jM κ y (wsW_ y b2 maxL r2 hh) f mc ms (.ref (G 0) :: As) (wX κ G T) (fun v u => v = (some (.long x)) ∧ u = wX κ G T')) (hG : GoodIn lw_all (wsV RX0 index y.cls y (wsW_ y b2 maxL r2 hh))) (hy : y.cls ≠ "java/lang/invoke/MethodHandle" ∧ y.cls ≠ "java/lang/invoke/VarHandle" ∧ (parseMethodDescriptor y.desc).map (fun d => d.parameters.length) = some N) (hn : As.length = N) (hq : RX0 = y.cls) (hd : decode cc pc = .ok (.invokevirtual index, 3)) (hfit : jfit σ f mc ms a b maxL st) {st0 : List Value} (hst : st0 = As.reverse ++ .ref (G 0) :: st)
    (h : J κ Γ σ nL (wX κ G T') (a + mc) (b + ms) (pc + 3) L (.long x :: st)) : J κ Γ σ nL (wX κ G T) a b pc L st0 :=
  j_callVH hκ.1.1 C hM hG hy hn (r := 0) rfl (ci := ciX0) (q := (RX0, TX0, 49)) (hκ.cl rfl) hq hd hfit hst (fun v u hp => by obtain ⟨rfl, rfl⟩ := hp; exact h)
theorem jx_Fl (hκ : jX κ) (C : jC κ Γ cc nL own ret) {y : MethodName} {b2 : ByteArray} {maxL f index N : Nat} {r2 : Option FieldType} {As : List Value} {x : Int64} {T' : XS}
    (hM : jM κ y (ws_ y b2 maxL r2) f 0 0 (.ref (G 13) :: As) (wX κ G T) (fun v u => v = (some (.long x)) ∧ u = wX κ G T')) (hG : GoodIn lw_all (wsV own index y.cls y (ws_ y b2 maxL r2))) (hy : y.cls ≠ "java/lang/invoke/MethodHandle" ∧ y.cls ≠ "java/lang/invoke/VarHandle" ∧ (parseMethodDescriptor y.desc).map (fun d => d.parameters.length) = some N) (hn : As.length = N) (hq : RX1 = y.cls) (hd : decode cc pc = .ok (.invokevirtual index, 3)) (hfit : jfit σ f 0 0 a b maxL st) {st0 : List Value} (hst : st0 = As.reverse ++ .ref (G 13) :: st)
    (h : J κ Γ σ nL (wX κ G T') a b (pc + 3) L (.long x :: st)) : J κ Γ σ nL (wX κ G T) a b pc L st0 :=
  j_V hκ.1.1 C hM hG hy hn (r := 13) (wX_ar κ G T (k := 12) rfl rfl) (ci := ciX1) (q := (RX1, TX1, 1)) (hκ.cl rfl) hq hd hfit hst h
theorem jx_Wv (hκ : jX κ) (C : jC κ Γ cc nL RX0 ret) {y : MethodName} {b2 : ByteArray} {maxL f mc ms index N : Nat} {r2 : Option FieldType} {As : List Value}  {T' : XS}
    (hM : jM κ y (ws_ y b2 maxL r2) f mc ms (.ref (G 0) :: As) (wX κ G T) (fun v u => v = none ∧ u = wX κ G T')) (hG : GoodIn lw_all (wsV RX0 index y.cls y (ws_ y b2 maxL r2))) (hy : y.cls ≠ "java/lang/invoke/MethodHandle" ∧ y.cls ≠ "java/lang/invoke/VarHandle" ∧ (parseMethodDescriptor y.desc).map (fun d => d.parameters.length) = some N) (hn : As.length = N) (hq : RX0 = y.cls) (hd : decode cc pc = .ok (.invokevirtual index, 3)) (hfit : jfit σ f mc ms a b maxL st) {st0 : List Value} (hst : st0 = As.reverse ++ .ref (G 0) :: st)
    (h : J κ Γ σ nL (wX κ G T') (a + mc) (b + ms) (pc + 3) L (st)) : J κ Γ σ nL (wX κ G T) a b pc L st0 :=
  j_callV hκ.1.1 C hM hG hy hn (r := 0) rfl (ci := ciX0) (q := (RX0, TX0, 49)) (hκ.cl rfl) hq hd hfit hst (fun v u hp => by obtain ⟨rfl, rfl⟩ := hp; exact h)
theorem jx_Hv (hκ : jX κ) (C : jC κ Γ cc nL RX0 ret) {y : MethodName} {b2 : ByteArray} {maxL f mc ms index N : Nat} {r2 : Option FieldType} {hh : List (Nat × Nat × Nat × Nat)} {As : List Value}  {T' : XS}
    (hM : jM κ y (wsW_ y b2 maxL r2 hh) f mc ms (.ref (G 0) :: As) (wX κ G T) (fun v u => v = none ∧ u = wX κ G T')) (hG : GoodIn lw_all (wsV RX0 index y.cls y (wsW_ y b2 maxL r2 hh))) (hy : y.cls ≠ "java/lang/invoke/MethodHandle" ∧ y.cls ≠ "java/lang/invoke/VarHandle" ∧ (parseMethodDescriptor y.desc).map (fun d => d.parameters.length) = some N) (hn : As.length = N) (hq : RX0 = y.cls) (hd : decode cc pc = .ok (.invokevirtual index, 3)) (hfit : jfit σ f mc ms a b maxL st) {st0 : List Value} (hst : st0 = As.reverse ++ .ref (G 0) :: st)
    (h : J κ Γ σ nL (wX κ G T') (a + mc) (b + ms) (pc + 3) L (st)) : J κ Γ σ nL (wX κ G T) a b pc L st0 :=
  j_callVH hκ.1.1 C hM hG hy hn (r := 0) rfl (ci := ciX0) (q := (RX0, TX0, 49)) (hκ.cl rfl) hq hd hfit hst (fun v u hp => by obtain ⟨rfl, rfl⟩ := hp; exact h)
theorem jx_Fv (hκ : jX κ) (C : jC κ Γ cc nL own ret) {y : MethodName} {b2 : ByteArray} {maxL f index N : Nat} {r2 : Option FieldType} {As : List Value}  {T' : XS}
    (hM : jM κ y (ws_ y b2 maxL r2) f 0 0 (.ref (G 13) :: As) (wX κ G T) (fun v u => v = none ∧ u = wX κ G T')) (hG : GoodIn lw_all (wsV own index y.cls y (ws_ y b2 maxL r2))) (hy : y.cls ≠ "java/lang/invoke/MethodHandle" ∧ y.cls ≠ "java/lang/invoke/VarHandle" ∧ (parseMethodDescriptor y.desc).map (fun d => d.parameters.length) = some N) (hn : As.length = N) (hq : RX1 = y.cls) (hd : decode cc pc = .ok (.invokevirtual index, 3)) (hfit : jfit σ f 0 0 a b maxL st) {st0 : List Value} (hst : st0 = As.reverse ++ .ref (G 13) :: st)
    (h : J κ Γ σ nL (wX κ G T') a b (pc + 3) L (st)) : J κ Γ σ nL (wX κ G T) a b pc L st0 :=
  j_V hκ.1.1 C hM hG hy hn (r := 13) (wX_ar κ G T (k := 12) rfl rfl) (ci := ciX1) (q := (RX1, TX1, 1)) (hκ.cl rfl) hq hd hfit hst h
theorem jx_gnamed (hκ : jX κ) (C : jC κ Γ cc nL own ret) {index : Nat} (hlink : Cond.fieldLink own index (TX1 0).1 (TX1 0).2.1 (TX1 0).2.2.1 ∈ lw_all) (hd : decode cc pc = .ok (.getfield index, 3)) (h : J κ Γ σ nL (wX κ G T) a b (pc + 3) L (.ref (G (49 + 1)) :: st)) : J κ Γ σ nL (wX κ G T) a b pc L (.ref (G 13) :: st) :=
  j_get C in_X1 13 (wX_ar κ G T (k := 12) rfl rfl) (hκ.cl rfl) 0 (by decide) hlink rfl rfl hd h
theorem jx_gnamedN (hκ : jX κ) (C : jC κ Γ cc nL own ret) {index : Nat} {host : String} (hlink : Cond.fieldLinkNest own index (TX1 0).1 (TX1 0).2.1 (TX1 0).2.2.1 host ∈ lw_tbl) (hd : decode cc pc = .ok (.getfield index, 3)) (h : J κ Γ σ nL (wX κ G T) a b (pc + 3) L (.ref (G (49 + 1)) :: st)) : J κ Γ σ nL (wX κ G T) a b pc L (.ref (G 13) :: st) :=
  j_getN hκ.2 C in_X1 13 (wX_ar κ G T (k := 12) rfl rfl) (hκ.cl rfl) 0 (by decide) hlink rfl rfl hd h
theorem jx_alen (hκ : jX κ) (C : jC κ Γ cc nL own ret) (k : Nat) (hs : xKd k = 1) {v : Int32} (hv : Int32.ofNat (xLn k) = v) (hd : decode cc pc = .ok (.arraylength, 1)) (h : J κ Γ σ nL (wX κ G T) a b (pc + 1) L (.int v :: st)) : J κ Γ σ nL (wX κ G T) a b pc L (.ref (G (k + 1)) :: st) := by
  have ht : xJt k = 0 := by
    unfold xKd at hs
    unfold xJt
    split at hs <;> first | rfl | (exfalso; revert hs; decide) | skip
  exact j_alen C (k + 1) 0 (by rw [wX_ar κ G T (by rw [hs]; rfl) (by rw [hs]; rfl), arX1 κ G T (by rw [hs]; rfl), ht]) (hκ.ty 0 rfl) hv hd h
theorem jx_aast (hκ : jX κ) (C : jC κ Γ cc nL own ret) (k : Nat) (hs : xKd k = 5) {E : String} (hty : jTy[xJt k]? = some (.object E)) {i : Int32} {q t : Nat} {x : XO} {vc : vw_C} (hin : vp_in i (xLn k)) (hx : getO T q t = some x) (ht : t < 30) (hc : jCl[oCi t]? = some vc) (hE : vc.1 = E) (hd : decode cc pc = .ok (.aastore, 1)) (h : J κ Γ σ nL (wX κ G (xR T k i.toNatClampNeg (some q))) a b (pc + 1) L st) : J κ Γ σ nL (wX κ G T) a b pc L (.ref q :: .int i :: .ref (G (k + 1)) :: st) := by
  subst hE
  refine j_aast C (k + 1) (xJt k) (100 + q) (by rw [wX_ar κ G T (by rw [hs]; rfl) (by rw [hs]; rfl), arX5 κ G T hs]) (hκ.ty _ hty) (wX_obt hx ht) (hκ.cl hc) hin hd ?_
  rw [wX_sR κ G T hs]
  exact h

end XROWS
section XOBJ
variable {κ : jK} {Γ : jG} {σ : jS} {nL : Nat} {a b : Nat} {pc : Nat} {L : List (Option Value)} {st : List Value} {cc : ByteArray} {own : String} {ret : Option FieldType} {G : Nat → Nat} {T : XS} {q : Nat} {x : XO}
theorem jx_gi3 (hκ : jX κ) (C : jC κ Γ cc nL own ret) (hx : getO T q 3 = some x) (j : Nat) (hj : j < 5) (hk : oK 3 j = 0) {index : Nat} (hlink : Cond.fieldLink own index (TX3 j).1 (TX3 j).2.1 (TX3 j).2.2.1 ∈ lw_all) (hd : decode cc pc = .ok (.getfield index, 3)) (h : J κ Γ σ nL (wX κ G T) a b (pc + 3) L (.int (x.2.1 j) :: st)) : J κ Γ σ nL (wX κ G T) a b pc L (.ref q :: st) :=
  j_get C in_X3 (100 + q) (wX_obt hx (by decide)) (hκ.cl rfl) j hj hlink rfl (fsO_i hx hj hk) hd h
theorem jx_gi3N (hκ : jX κ) (C : jC κ Γ cc nL own ret) (hx : getO T q 3 = some x) (j : Nat) (hj : j < 5) (hk : oK 3 j = 0) {index : Nat} {host : String} (hlink : Cond.fieldLinkNest own index (TX3 j).1 (TX3 j).2.1 (TX3 j).2.2.1 host ∈ lw_tbl) (hd : decode cc pc = .ok (.getfield index, 3)) (h : J κ Γ σ nL (wX κ G T) a b (pc + 3) L (.int (x.2.1 j) :: st)) : J κ Γ σ nL (wX κ G T) a b pc L (.ref q :: st) :=
  j_getN hκ.2 C in_X3 (100 + q) (wX_obt hx (by decide)) (hκ.cl rfl) j hj hlink rfl (fsO_i hx hj hk) hd h
theorem jx_gi4 (hκ : jX κ) (C : jC κ Γ cc nL own ret) (hx : getO T q 4 = some x) (j : Nat) (hj : j < 4) (hk : oK 4 j = 0) {index : Nat} (hlink : Cond.fieldLink own index (TX4 j).1 (TX4 j).2.1 (TX4 j).2.2.1 ∈ lw_all) (hd : decode cc pc = .ok (.getfield index, 3)) (h : J κ Γ σ nL (wX κ G T) a b (pc + 3) L (.int (x.2.1 j) :: st)) : J κ Γ σ nL (wX κ G T) a b pc L (.ref q :: st) :=
  j_get C in_X4 (100 + q) (wX_obt hx (by decide)) (hκ.cl rfl) j hj hlink rfl (fsO_i hx hj hk) hd h
theorem jx_gi4N (hκ : jX κ) (C : jC κ Γ cc nL own ret) (hx : getO T q 4 = some x) (j : Nat) (hj : j < 4) (hk : oK 4 j = 0) {index : Nat} {host : String} (hlink : Cond.fieldLinkNest own index (TX4 j).1 (TX4 j).2.1 (TX4 j).2.2.1 host ∈ lw_tbl) (hd : decode cc pc = .ok (.getfield index, 3)) (h : J κ Γ σ nL (wX κ G T) a b (pc + 3) L (.int (x.2.1 j) :: st)) : J κ Γ σ nL (wX κ G T) a b pc L (.ref q :: st) :=
  j_getN hκ.2 C in_X4 (100 + q) (wX_obt hx (by decide)) (hκ.cl rfl) j hj hlink rfl (fsO_i hx hj hk) hd h
theorem jx_gi5 (hκ : jX κ) (C : jC κ Γ cc nL own ret) (hx : getO T q 5 = some x) (j : Nat) (hj : j < 4) (hk : oK 5 j = 0) {index : Nat} (hlink : Cond.fieldLink own index (TX5 j).1 (TX5 j).2.1 (TX5 j).2.2.1 ∈ lw_all) (hd : decode cc pc = .ok (.getfield index, 3)) (h : J κ Γ σ nL (wX κ G T) a b (pc + 3) L (.int (x.2.1 j) :: st)) : J κ Γ σ nL (wX κ G T) a b pc L (.ref q :: st) :=
  j_get C in_X5 (100 + q) (wX_obt hx (by decide)) (hκ.cl rfl) j hj hlink rfl (fsO_i hx hj hk) hd h
theorem jx_gt5 (hκ : jX κ) (C : jC κ Γ cc nL own ret) (hx : getO T q 5 = some x) (j : Nat) (hj : j < 4) (hk : oK 5 j = 2) {index : Nat} (hlink : Cond.fieldLink own index (TX5 j).1 (TX5 j).2.1 (TX5 j).2.2.1 ∈ lw_all) (hd : decode cc pc = .ok (.getfield index, 3)) (h : J κ Γ σ nL (wX κ G T) a b (pc + 3) L (.ref (G 0) :: st)) : J κ Γ σ nL (wX κ G T) a b pc L (.ref q :: st) :=
  j_get C in_X5 (100 + q) (wX_obt hx (by decide)) (hκ.cl rfl) j hj hlink rfl (fsO_t hx hj hk) hd h
theorem jx_gi5N (hκ : jX κ) (C : jC κ Γ cc nL own ret) (hx : getO T q 5 = some x) (j : Nat) (hj : j < 4) (hk : oK 5 j = 0) {index : Nat} {host : String} (hlink : Cond.fieldLinkNest own index (TX5 j).1 (TX5 j).2.1 (TX5 j).2.2.1 host ∈ lw_tbl) (hd : decode cc pc = .ok (.getfield index, 3)) (h : J κ Γ σ nL (wX κ G T) a b (pc + 3) L (.int (x.2.1 j) :: st)) : J κ Γ σ nL (wX κ G T) a b pc L (.ref q :: st) :=
  j_getN hκ.2 C in_X5 (100 + q) (wX_obt hx (by decide)) (hκ.cl rfl) j hj hlink rfl (fsO_i hx hj hk) hd h
theorem jx_gt5N (hκ : jX κ) (C : jC κ Γ cc nL own ret) (hx : getO T q 5 = some x) (j : Nat) (hj : j < 4) (hk : oK 5 j = 2) {index : Nat} {host : String} (hlink : Cond.fieldLinkNest own index (TX5 j).1 (TX5 j).2.1 (TX5 j).2.2.1 host ∈ lw_tbl) (hd : decode cc pc = .ok (.getfield index, 3)) (h : J κ Γ σ nL (wX κ G T) a b (pc + 3) L (.ref (G 0) :: st)) : J κ Γ σ nL (wX κ G T) a b pc L (.ref q :: st) :=
  j_getN hκ.2 C in_X5 (100 + q) (wX_obt hx (by decide)) (hκ.cl rfl) j hj hlink rfl (fsO_t hx hj hk) hd h
theorem jx_gr6 (hκ : jX κ) (C : jC κ Γ cc nL own ret) (hx : getO T q 6 = some x) (j : Nat) (hj : j < 3) (hk : oK 6 j = 1) {index : Nat} (hlink : Cond.fieldLink own index (TX6 j).1 (TX6 j).2.1 (TX6 j).2.2.1 ∈ lw_all) (hd : decode cc pc = .ok (.getfield index, 3)) (h : J κ Γ σ nL (wX κ G T) a b (pc + 3) L (va_rf (x.2.2.1 j) :: st)) : J κ Γ σ nL (wX κ G T) a b pc L (.ref q :: st) :=
  j_get C in_X6 (100 + q) (wX_obt hx (by decide)) (hκ.cl rfl) j hj hlink rfl (fsO_r hx hj hk) hd h
theorem jx_gr6N (hκ : jX κ) (C : jC κ Γ cc nL own ret) (hx : getO T q 6 = some x) (j : Nat) (hj : j < 3) (hk : oK 6 j = 1) {index : Nat} {host : String} (hlink : Cond.fieldLinkNest own index (TX6 j).1 (TX6 j).2.1 (TX6 j).2.2.1 host ∈ lw_tbl) (hd : decode cc pc = .ok (.getfield index, 3)) (h : J κ Γ σ nL (wX κ G T) a b (pc + 3) L (va_rf (x.2.2.1 j) :: st)) : J κ Γ σ nL (wX κ G T) a b pc L (.ref q :: st) :=
  j_getN hκ.2 C in_X6 (100 + q) (wX_obt hx (by decide)) (hκ.cl rfl) j hj hlink rfl (fsO_r hx hj hk) hd h
theorem jx_gi8 (hκ : jX κ) (C : jC κ Γ cc nL own ret) (hx : getO T q 8 = some x) (j : Nat) (hj : j < 1) (hk : oK 8 j = 0) {index : Nat} (hlink : Cond.fieldLink own index (TX8 j).1 (TX8 j).2.1 (TX8 j).2.2.1 ∈ lw_all) (hd : decode cc pc = .ok (.getfield index, 3)) (h : J κ Γ σ nL (wX κ G T) a b (pc + 3) L (.int (x.2.1 j) :: st)) : J κ Γ σ nL (wX κ G T) a b pc L (.ref q :: st) :=
  j_get C in_X8 (100 + q) (wX_obt hx (by decide)) (hκ.cl rfl) j hj hlink rfl (fsO_i hx hj hk) hd h
theorem jx_gi8N (hκ : jX κ) (C : jC κ Γ cc nL own ret) (hx : getO T q 8 = some x) (j : Nat) (hj : j < 1) (hk : oK 8 j = 0) {index : Nat} {host : String} (hlink : Cond.fieldLinkNest own index (TX8 j).1 (TX8 j).2.1 (TX8 j).2.2.1 host ∈ lw_tbl) (hd : decode cc pc = .ok (.getfield index, 3)) (h : J κ Γ σ nL (wX κ G T) a b (pc + 3) L (.int (x.2.1 j) :: st)) : J κ Γ σ nL (wX κ G T) a b pc L (.ref q :: st) :=
  j_getN hκ.2 C in_X8 (100 + q) (wX_obt hx (by decide)) (hκ.cl rfl) j hj hlink rfl (fsO_i hx hj hk) hd h
theorem jx_gr9 (hκ : jX κ) (C : jC κ Γ cc nL own ret) (hx : getO T q 9 = some x) (j : Nat) (hj : j < 1) (hk : oK 9 j = 1) {index : Nat} (hlink : Cond.fieldLink own index (TX9 j).1 (TX9 j).2.1 (TX9 j).2.2.1 ∈ lw_all) (hd : decode cc pc = .ok (.getfield index, 3)) (h : J κ Γ σ nL (wX κ G T) a b (pc + 3) L (va_rf (x.2.2.1 j) :: st)) : J κ Γ σ nL (wX κ G T) a b pc L (.ref q :: st) :=
  j_get C in_X9 (100 + q) (wX_obt hx (by decide)) (hκ.cl rfl) j hj hlink rfl (fsO_r hx hj hk) hd h
theorem jx_gr9N (hκ : jX κ) (C : jC κ Γ cc nL own ret) (hx : getO T q 9 = some x) (j : Nat) (hj : j < 1) (hk : oK 9 j = 1) {index : Nat} {host : String} (hlink : Cond.fieldLinkNest own index (TX9 j).1 (TX9 j).2.1 (TX9 j).2.2.1 host ∈ lw_tbl) (hd : decode cc pc = .ok (.getfield index, 3)) (h : J κ Γ σ nL (wX κ G T) a b (pc + 3) L (va_rf (x.2.2.1 j) :: st)) : J κ Γ σ nL (wX κ G T) a b pc L (.ref q :: st) :=
  j_getN hκ.2 C in_X9 (100 + q) (wX_obt hx (by decide)) (hκ.cl rfl) j hj hlink rfl (fsO_r hx hj hk) hd h
theorem jx_gr10 (hκ : jX κ) (C : jC κ Γ cc nL own ret) (hx : getO T q 10 = some x) (j : Nat) (hj : j < 1) (hk : oK 10 j = 1) {index : Nat} (hlink : Cond.fieldLink own index (TX10 j).1 (TX10 j).2.1 (TX10 j).2.2.1 ∈ lw_all) (hd : decode cc pc = .ok (.getfield index, 3)) (h : J κ Γ σ nL (wX κ G T) a b (pc + 3) L (va_rf (x.2.2.1 j) :: st)) : J κ Γ σ nL (wX κ G T) a b pc L (.ref q :: st) :=
  j_get C in_X10 (100 + q) (wX_obt hx (by decide)) (hκ.cl rfl) j hj hlink rfl (fsO_r hx hj hk) hd h
theorem jx_gr10N (hκ : jX κ) (C : jC κ Γ cc nL own ret) (hx : getO T q 10 = some x) (j : Nat) (hj : j < 1) (hk : oK 10 j = 1) {index : Nat} {host : String} (hlink : Cond.fieldLinkNest own index (TX10 j).1 (TX10 j).2.1 (TX10 j).2.2.1 host ∈ lw_tbl) (hd : decode cc pc = .ok (.getfield index, 3)) (h : J κ Γ σ nL (wX κ G T) a b (pc + 3) L (va_rf (x.2.2.1 j) :: st)) : J κ Γ σ nL (wX κ G T) a b pc L (.ref q :: st) :=
  j_getN hκ.2 C in_X10 (100 + q) (wX_obt hx (by decide)) (hκ.cl rfl) j hj hlink rfl (fsO_r hx hj hk) hd h
theorem jx_gi11 (hκ : jX κ) (C : jC κ Γ cc nL own ret) (hx : getO T q 11 = some x) (j : Nat) (hj : j < 1) (hk : oK 11 j = 0) {index : Nat} (hlink : Cond.fieldLink own index (TX11 j).1 (TX11 j).2.1 (TX11 j).2.2.1 ∈ lw_all) (hd : decode cc pc = .ok (.getfield index, 3)) (h : J κ Γ σ nL (wX κ G T) a b (pc + 3) L (.int (x.2.1 j) :: st)) : J κ Γ σ nL (wX κ G T) a b pc L (.ref q :: st) :=
  j_get C in_X11 (100 + q) (wX_obt hx (by decide)) (hκ.cl rfl) j hj hlink rfl (fsO_i hx hj hk) hd h
theorem jx_gi11N (hκ : jX κ) (C : jC κ Γ cc nL own ret) (hx : getO T q 11 = some x) (j : Nat) (hj : j < 1) (hk : oK 11 j = 0) {index : Nat} {host : String} (hlink : Cond.fieldLinkNest own index (TX11 j).1 (TX11 j).2.1 (TX11 j).2.2.1 host ∈ lw_tbl) (hd : decode cc pc = .ok (.getfield index, 3)) (h : J κ Γ σ nL (wX κ G T) a b (pc + 3) L (.int (x.2.1 j) :: st)) : J κ Γ σ nL (wX κ G T) a b pc L (.ref q :: st) :=
  j_getN hκ.2 C in_X11 (100 + q) (wX_obt hx (by decide)) (hκ.cl rfl) j hj hlink rfl (fsO_i hx hj hk) hd h
theorem jx_gi12 (hκ : jX κ) (C : jC κ Γ cc nL own ret) (hx : getO T q 12 = some x) (j : Nat) (hj : j < 3) (hk : oK 12 j = 0) {index : Nat} (hlink : Cond.fieldLink own index (TX12 j).1 (TX12 j).2.1 (TX12 j).2.2.1 ∈ lw_all) (hd : decode cc pc = .ok (.getfield index, 3)) (h : J κ Γ σ nL (wX κ G T) a b (pc + 3) L (.int (x.2.1 j) :: st)) : J κ Γ σ nL (wX κ G T) a b pc L (.ref q :: st) :=
  j_get C in_X12 (100 + q) (wX_obt hx (by decide)) (hκ.cl rfl) j hj hlink rfl (fsO_i hx hj hk) hd h
theorem jx_gr12 (hκ : jX κ) (C : jC κ Γ cc nL own ret) (hx : getO T q 12 = some x) (j : Nat) (hj : j < 3) (hk : oK 12 j = 1) {index : Nat} (hlink : Cond.fieldLink own index (TX12 j).1 (TX12 j).2.1 (TX12 j).2.2.1 ∈ lw_all) (hd : decode cc pc = .ok (.getfield index, 3)) (h : J κ Γ σ nL (wX κ G T) a b (pc + 3) L (va_rf (x.2.2.1 j) :: st)) : J κ Γ σ nL (wX κ G T) a b pc L (.ref q :: st) :=
  j_get C in_X12 (100 + q) (wX_obt hx (by decide)) (hκ.cl rfl) j hj hlink rfl (fsO_r hx hj hk) hd h
theorem jx_gi12N (hκ : jX κ) (C : jC κ Γ cc nL own ret) (hx : getO T q 12 = some x) (j : Nat) (hj : j < 3) (hk : oK 12 j = 0) {index : Nat} {host : String} (hlink : Cond.fieldLinkNest own index (TX12 j).1 (TX12 j).2.1 (TX12 j).2.2.1 host ∈ lw_tbl) (hd : decode cc pc = .ok (.getfield index, 3)) (h : J κ Γ σ nL (wX κ G T) a b (pc + 3) L (.int (x.2.1 j) :: st)) : J κ Γ σ nL (wX κ G T) a b pc L (.ref q :: st) :=
  j_getN hκ.2 C in_X12 (100 + q) (wX_obt hx (by decide)) (hκ.cl rfl) j hj hlink rfl (fsO_i hx hj hk) hd h
theorem jx_gr12N (hκ : jX κ) (C : jC κ Γ cc nL own ret) (hx : getO T q 12 = some x) (j : Nat) (hj : j < 3) (hk : oK 12 j = 1) {index : Nat} {host : String} (hlink : Cond.fieldLinkNest own index (TX12 j).1 (TX12 j).2.1 (TX12 j).2.2.1 host ∈ lw_tbl) (hd : decode cc pc = .ok (.getfield index, 3)) (h : J κ Γ σ nL (wX κ G T) a b (pc + 3) L (va_rf (x.2.2.1 j) :: st)) : J κ Γ σ nL (wX κ G T) a b pc L (.ref q :: st) :=
  j_getN hκ.2 C in_X12 (100 + q) (wX_obt hx (by decide)) (hκ.cl rfl) j hj hlink rfl (fsO_r hx hj hk) hd h
theorem jx_gi14 (hκ : jX κ) (C : jC κ Γ cc nL own ret) (hx : getO T q 14 = some x) (j : Nat) (hj : j < 2) (hk : oK 14 j = 0) {index : Nat} (hlink : Cond.fieldLink own index (TX14 j).1 (TX14 j).2.1 (TX14 j).2.2.1 ∈ lw_all) (hd : decode cc pc = .ok (.getfield index, 3)) (h : J κ Γ σ nL (wX κ G T) a b (pc + 3) L (.int (x.2.1 j) :: st)) : J κ Γ σ nL (wX κ G T) a b pc L (.ref q :: st) :=
  j_get C in_X14 (100 + q) (wX_obt hx (by decide)) (hκ.cl rfl) j hj hlink rfl (fsO_i hx hj hk) hd h
theorem jx_gt14 (hκ : jX κ) (C : jC κ Γ cc nL own ret) (hx : getO T q 14 = some x) (j : Nat) (hj : j < 2) (hk : oK 14 j = 2) {index : Nat} (hlink : Cond.fieldLink own index (TX14 j).1 (TX14 j).2.1 (TX14 j).2.2.1 ∈ lw_all) (hd : decode cc pc = .ok (.getfield index, 3)) (h : J κ Γ σ nL (wX κ G T) a b (pc + 3) L (.ref (G 0) :: st)) : J κ Γ σ nL (wX κ G T) a b pc L (.ref q :: st) :=
  j_get C in_X14 (100 + q) (wX_obt hx (by decide)) (hκ.cl rfl) j hj hlink rfl (fsO_t hx hj hk) hd h
theorem jx_gi14N (hκ : jX κ) (C : jC κ Γ cc nL own ret) (hx : getO T q 14 = some x) (j : Nat) (hj : j < 2) (hk : oK 14 j = 0) {index : Nat} {host : String} (hlink : Cond.fieldLinkNest own index (TX14 j).1 (TX14 j).2.1 (TX14 j).2.2.1 host ∈ lw_tbl) (hd : decode cc pc = .ok (.getfield index, 3)) (h : J κ Γ σ nL (wX κ G T) a b (pc + 3) L (.int (x.2.1 j) :: st)) : J κ Γ σ nL (wX κ G T) a b pc L (.ref q :: st) :=
  j_getN hκ.2 C in_X14 (100 + q) (wX_obt hx (by decide)) (hκ.cl rfl) j hj hlink rfl (fsO_i hx hj hk) hd h
theorem jx_gt14N (hκ : jX κ) (C : jC κ Γ cc nL own ret) (hx : getO T q 14 = some x) (j : Nat) (hj : j < 2) (hk : oK 14 j = 2) {index : Nat} {host : String} (hlink : Cond.fieldLinkNest own index (TX14 j).1 (TX14 j).2.1 (TX14 j).2.2.1 host ∈ lw_tbl) (hd : decode cc pc = .ok (.getfield index, 3)) (h : J κ Γ σ nL (wX κ G T) a b (pc + 3) L (.ref (G 0) :: st)) : J κ Γ σ nL (wX κ G T) a b pc L (.ref q :: st) :=
  j_getN hκ.2 C in_X14 (100 + q) (wX_obt hx (by decide)) (hκ.cl rfl) j hj hlink rfl (fsO_t hx hj hk) hd h
theorem jx_gr23 (hκ : jX κ) (C : jC κ Γ cc nL own ret) (hx : getO T q 23 = some x) (j : Nat) (hj : j < 1) (hk : oK 23 j = 1) {index : Nat} (hlink : Cond.fieldLink own index (TX23 j).1 (TX23 j).2.1 (TX23 j).2.2.1 ∈ lw_all) (hd : decode cc pc = .ok (.getfield index, 3)) (h : J κ Γ σ nL (wX κ G T) a b (pc + 3) L (va_rf (x.2.2.1 j) :: st)) : J κ Γ σ nL (wX κ G T) a b pc L (.ref q :: st) :=
  j_get C in_X23 (100 + q) (wX_obt hx (by decide)) (hκ.cl rfl) j hj hlink rfl (fsO_r hx hj hk) hd h
theorem jx_gr23N (hκ : jX κ) (C : jC κ Γ cc nL own ret) (hx : getO T q 23 = some x) (j : Nat) (hj : j < 1) (hk : oK 23 j = 1) {index : Nat} {host : String} (hlink : Cond.fieldLinkNest own index (TX23 j).1 (TX23 j).2.1 (TX23 j).2.2.1 host ∈ lw_tbl) (hd : decode cc pc = .ok (.getfield index, 3)) (h : J κ Γ σ nL (wX κ G T) a b (pc + 3) L (va_rf (x.2.2.1 j) :: st)) : J κ Γ σ nL (wX κ G T) a b pc L (.ref q :: st) :=
  j_getN hκ.2 C in_X23 (100 + q) (wX_obt hx (by decide)) (hκ.cl rfl) j hj hlink rfl (fsO_r hx hj hk) hd h
theorem jx_gr24 (hκ : jX κ) (C : jC κ Γ cc nL own ret) (hx : getO T q 24 = some x) (j : Nat) (hj : j < 1) (hk : oK 24 j = 1) {index : Nat} (hlink : Cond.fieldLink own index (TX24 j).1 (TX24 j).2.1 (TX24 j).2.2.1 ∈ lw_all) (hd : decode cc pc = .ok (.getfield index, 3)) (h : J κ Γ σ nL (wX κ G T) a b (pc + 3) L (va_rf (x.2.2.1 j) :: st)) : J κ Γ σ nL (wX κ G T) a b pc L (.ref q :: st) :=
  j_get C in_X24 (100 + q) (wX_obt hx (by decide)) (hκ.cl rfl) j hj hlink rfl (fsO_r hx hj hk) hd h
theorem jx_gr24N (hκ : jX κ) (C : jC κ Γ cc nL own ret) (hx : getO T q 24 = some x) (j : Nat) (hj : j < 1) (hk : oK 24 j = 1) {index : Nat} {host : String} (hlink : Cond.fieldLinkNest own index (TX24 j).1 (TX24 j).2.1 (TX24 j).2.2.1 host ∈ lw_tbl) (hd : decode cc pc = .ok (.getfield index, 3)) (h : J κ Γ σ nL (wX κ G T) a b (pc + 3) L (va_rf (x.2.2.1 j) :: st)) : J κ Γ σ nL (wX κ G T) a b pc L (.ref q :: st) :=
  j_getN hκ.2 C in_X24 (100 + q) (wX_obt hx (by decide)) (hκ.cl rfl) j hj hlink rfl (fsO_r hx hj hk) hd h
theorem jx_gr25 (hκ : jX κ) (C : jC κ Γ cc nL own ret) (hx : getO T q 25 = some x) (j : Nat) (hj : j < 1) (hk : oK 25 j = 1) {index : Nat} (hlink : Cond.fieldLink own index (TX25 j).1 (TX25 j).2.1 (TX25 j).2.2.1 ∈ lw_all) (hd : decode cc pc = .ok (.getfield index, 3)) (h : J κ Γ σ nL (wX κ G T) a b (pc + 3) L (va_rf (x.2.2.1 j) :: st)) : J κ Γ σ nL (wX κ G T) a b pc L (.ref q :: st) :=
  j_get C in_X25 (100 + q) (wX_obt hx (by decide)) (hκ.cl rfl) j hj hlink rfl (fsO_r hx hj hk) hd h
theorem jx_gr25N (hκ : jX κ) (C : jC κ Γ cc nL own ret) (hx : getO T q 25 = some x) (j : Nat) (hj : j < 1) (hk : oK 25 j = 1) {index : Nat} {host : String} (hlink : Cond.fieldLinkNest own index (TX25 j).1 (TX25 j).2.1 (TX25 j).2.2.1 host ∈ lw_tbl) (hd : decode cc pc = .ok (.getfield index, 3)) (h : J κ Γ σ nL (wX κ G T) a b (pc + 3) L (va_rf (x.2.2.1 j) :: st)) : J κ Γ σ nL (wX κ G T) a b pc L (.ref q :: st) :=
  j_getN hκ.2 C in_X25 (100 + q) (wX_obt hx (by decide)) (hκ.cl rfl) j hj hlink rfl (fsO_r hx hj hk) hd h
theorem jx_gr26 (hκ : jX κ) (C : jC κ Γ cc nL own ret) (hx : getO T q 26 = some x) (j : Nat) (hj : j < 1) (hk : oK 26 j = 1) {index : Nat} (hlink : Cond.fieldLink own index (TX26 j).1 (TX26 j).2.1 (TX26 j).2.2.1 ∈ lw_all) (hd : decode cc pc = .ok (.getfield index, 3)) (h : J κ Γ σ nL (wX κ G T) a b (pc + 3) L (va_rf (x.2.2.1 j) :: st)) : J κ Γ σ nL (wX κ G T) a b pc L (.ref q :: st) :=
  j_get C in_X26 (100 + q) (wX_obt hx (by decide)) (hκ.cl rfl) j hj hlink rfl (fsO_r hx hj hk) hd h
theorem jx_gr26N (hκ : jX κ) (C : jC κ Γ cc nL own ret) (hx : getO T q 26 = some x) (j : Nat) (hj : j < 1) (hk : oK 26 j = 1) {index : Nat} {host : String} (hlink : Cond.fieldLinkNest own index (TX26 j).1 (TX26 j).2.1 (TX26 j).2.2.1 host ∈ lw_tbl) (hd : decode cc pc = .ok (.getfield index, 3)) (h : J κ Γ σ nL (wX κ G T) a b (pc + 3) L (va_rf (x.2.2.1 j) :: st)) : J κ Γ σ nL (wX κ G T) a b pc L (.ref q :: st) :=
  j_getN hκ.2 C in_X26 (100 + q) (wX_obt hx (by decide)) (hκ.cl rfl) j hj hlink rfl (fsO_r hx hj hk) hd h
theorem jx_gr27 (hκ : jX κ) (C : jC κ Γ cc nL own ret) (hx : getO T q 27 = some x) (j : Nat) (hj : j < 1) (hk : oK 27 j = 1) {index : Nat} (hlink : Cond.fieldLink own index (TX27 j).1 (TX27 j).2.1 (TX27 j).2.2.1 ∈ lw_all) (hd : decode cc pc = .ok (.getfield index, 3)) (h : J κ Γ σ nL (wX κ G T) a b (pc + 3) L (va_rf (x.2.2.1 j) :: st)) : J κ Γ σ nL (wX κ G T) a b pc L (.ref q :: st) :=
  j_get C in_X27 (100 + q) (wX_obt hx (by decide)) (hκ.cl rfl) j hj hlink rfl (fsO_r hx hj hk) hd h
theorem jx_gr27N (hκ : jX κ) (C : jC κ Γ cc nL own ret) (hx : getO T q 27 = some x) (j : Nat) (hj : j < 1) (hk : oK 27 j = 1) {index : Nat} {host : String} (hlink : Cond.fieldLinkNest own index (TX27 j).1 (TX27 j).2.1 (TX27 j).2.2.1 host ∈ lw_tbl) (hd : decode cc pc = .ok (.getfield index, 3)) (h : J κ Γ σ nL (wX κ G T) a b (pc + 3) L (va_rf (x.2.2.1 j) :: st)) : J κ Γ σ nL (wX κ G T) a b pc L (.ref q :: st) :=
  j_getN hκ.2 C in_X27 (100 + q) (wX_obt hx (by decide)) (hκ.cl rfl) j hj hlink rfl (fsO_r hx hj hk) hd h
theorem jx_pi3 (hκ : jX κ) (C : jC κ Γ cc nL own ret) (hx : getO T q 3 = some x) (j : Nat) (hj : j < 5) (hk : oK 3 j = 0) (hfin : (TX3 j).2.2.2 = false) (hty : tyX3 j = .int) {index : Nat} {v : Int32} (hlink : Cond.fieldLink own index (TX3 j).1 (TX3 j).2.1 (TX3 j).2.2.1 ∈ lw_all) (hd : decode cc pc = .ok (.putfield index, 3)) (h : J κ Γ σ nL (wX κ G (xO T q (oI x j v))) a b (pc + 3) L st) : J κ Γ σ nL (wX κ G T) a b pc L (.int v :: .ref q :: st) := by
  have ht := (getO_some hx).2
  refine j_put C in_X3 tyX3 tyX3_ok nmX3 (100 + q) (wX_obt hx (by decide)) (hκ.cl rfl) j hj hlink rfl hfin hty rfl rfl (by rw [fsO_len, ht]; exact hj) hd ?_
  rw [fsO_I G x (by rw [ht]; exact hk)]
  have e := wX_sO κ G T q (oI x j v)
  rw [obE_o (t := 3) (by exact ht) (by decide)] at e
  rw [e]
  exact h
theorem jx_pi3N (hκ : jX κ) (C : jC κ Γ cc nL own ret) (hx : getO T q 3 = some x) (j : Nat) (hj : j < 5) (hk : oK 3 j = 0) (hfin : (TX3 j).2.2.2 = false) (hty : tyX3 j = .int) {index : Nat} {host : String} {v : Int32} (hlink : Cond.fieldLinkNest own index (TX3 j).1 (TX3 j).2.1 (TX3 j).2.2.1 host ∈ lw_tbl) (hd : decode cc pc = .ok (.putfield index, 3)) (h : J κ Γ σ nL (wX κ G (xO T q (oI x j v))) a b (pc + 3) L st) : J κ Γ σ nL (wX κ G T) a b pc L (.int v :: .ref q :: st) := by
  have ht := (getO_some hx).2
  refine j_putN hκ.2 C in_X3 tyX3 tyX3_ok nmX3 (100 + q) (wX_obt hx (by decide)) (hκ.cl rfl) j hj hlink rfl hfin hty rfl rfl (by rw [fsO_len, ht]; exact hj) hd ?_
  rw [fsO_I G x (by rw [ht]; exact hk)]
  have e := wX_sO κ G T q (oI x j v)
  rw [obE_o (t := 3) (by exact ht) (by decide)] at e
  rw [e]
  exact h
theorem jx_pi5 (hκ : jX κ) (C : jC κ Γ cc nL own ret) (hx : getO T q 5 = some x) (j : Nat) (hj : j < 4) (hk : oK 5 j = 0) (hfin : (TX5 j).2.2.2 = false) (hty : tyX5 j = .int) {index : Nat} {v : Int32} (hlink : Cond.fieldLink own index (TX5 j).1 (TX5 j).2.1 (TX5 j).2.2.1 ∈ lw_all) (hd : decode cc pc = .ok (.putfield index, 3)) (h : J κ Γ σ nL (wX κ G (xO T q (oI x j v))) a b (pc + 3) L st) : J κ Γ σ nL (wX κ G T) a b pc L (.int v :: .ref q :: st) := by
  have ht := (getO_some hx).2
  refine j_put C in_X5 tyX5 tyX5_ok nmX5 (100 + q) (wX_obt hx (by decide)) (hκ.cl rfl) j hj hlink rfl hfin hty rfl rfl (by rw [fsO_len, ht]; exact hj) hd ?_
  rw [fsO_I G x (by rw [ht]; exact hk)]
  have e := wX_sO κ G T q (oI x j v)
  rw [obE_o (t := 5) (by exact ht) (by decide)] at e
  rw [e]
  exact h
theorem jx_pi5N (hκ : jX κ) (C : jC κ Γ cc nL own ret) (hx : getO T q 5 = some x) (j : Nat) (hj : j < 4) (hk : oK 5 j = 0) (hfin : (TX5 j).2.2.2 = false) (hty : tyX5 j = .int) {index : Nat} {host : String} {v : Int32} (hlink : Cond.fieldLinkNest own index (TX5 j).1 (TX5 j).2.1 (TX5 j).2.2.1 host ∈ lw_tbl) (hd : decode cc pc = .ok (.putfield index, 3)) (h : J κ Γ σ nL (wX κ G (xO T q (oI x j v))) a b (pc + 3) L st) : J κ Γ σ nL (wX κ G T) a b pc L (.int v :: .ref q :: st) := by
  have ht := (getO_some hx).2
  refine j_putN hκ.2 C in_X5 tyX5 tyX5_ok nmX5 (100 + q) (wX_obt hx (by decide)) (hκ.cl rfl) j hj hlink rfl hfin hty rfl rfl (by rw [fsO_len, ht]; exact hj) hd ?_
  rw [fsO_I G x (by rw [ht]; exact hk)]
  have e := wX_sO κ G T q (oI x j v)
  rw [obE_o (t := 5) (by exact ht) (by decide)] at e
  rw [e]
  exact h
theorem jx_pr6 (hκ : jX κ) (C : jC κ Γ cc nL own ret) (hx : getO T q 6 = some x) (j : Nat) (hj : j < 3) (hk : oK 6 j = 1) (hfin : (TX6 j).2.2.2 = false) {cn : String} (hty : tyX6 j = .object cn) {index : Nat} {v : Option Nat} (hlink : Cond.fieldLink own index (TX6 j).1 (TX6 j).2.1 (TX6 j).2.2.1 ∈ lw_all) (hd : decode cc pc = .ok (.putfield index, 3)) (h : J κ Γ σ nL (wX κ G (xO T q (oR x j v))) a b (pc + 3) L st) : J κ Γ σ nL (wX κ G T) a b pc L (va_rf v :: .ref q :: st) := by
  have ht := (getO_some hx).2
  refine j_put C in_X6 tyX6 tyX6_ok nmX6 (100 + q) (wX_obt hx (by decide)) (hκ.cl rfl) j hj hlink rfl hfin hty (by cases v <;> rfl) (by cases v <;> rfl) (by rw [fsO_len, ht]; exact hj) hd ?_
  rw [fsO_R G x (by rw [ht]; exact hk)]
  have e := wX_sO κ G T q (oR x j v)
  rw [obE_o (t := 6) (by exact ht) (by decide)] at e
  rw [e]
  exact h
theorem jx_pr6N (hκ : jX κ) (C : jC κ Γ cc nL own ret) (hx : getO T q 6 = some x) (j : Nat) (hj : j < 3) (hk : oK 6 j = 1) (hfin : (TX6 j).2.2.2 = false) {cn : String} (hty : tyX6 j = .object cn) {index : Nat} {host : String} {v : Option Nat} (hlink : Cond.fieldLinkNest own index (TX6 j).1 (TX6 j).2.1 (TX6 j).2.2.1 host ∈ lw_tbl) (hd : decode cc pc = .ok (.putfield index, 3)) (h : J κ Γ σ nL (wX κ G (xO T q (oR x j v))) a b (pc + 3) L st) : J κ Γ σ nL (wX κ G T) a b pc L (va_rf v :: .ref q :: st) := by
  have ht := (getO_some hx).2
  refine j_putN hκ.2 C in_X6 tyX6 tyX6_ok nmX6 (100 + q) (wX_obt hx (by decide)) (hκ.cl rfl) j hj hlink rfl hfin hty (by cases v <;> rfl) (by cases v <;> rfl) (by rw [fsO_len, ht]; exact hj) hd ?_
  rw [fsO_R G x (by rw [ht]; exact hk)]
  have e := wX_sO κ G T q (oR x j v)
  rw [obE_o (t := 6) (by exact ht) (by decide)] at e
  rw [e]
  exact h
end XOBJ
