/-! THE REFERENCE'S WORLD (roles: 0 the object, k + 1 the array in its field k); its state: scalars by field, arrays by field, the long row. Own text, printed by mrows.py. -/
set_option maxRecDepth 100000
abbrev MS : Type := (Nat → Int32) × (Nat → Nat → Int32) × (Nat → Int64)
/-- what stands in a field: 0 a number, 1 ints, 2 longs, 3 truth values -/
def mKd : Nat → Nat := fun k => match k with
  | 1 => 1
  | 2 => 1
  | 3 => 1
  | 4 => 1
  | 5 => 1
  | 7 => 1
  | 10 => 1
  | 11 => 1
  | 12 => 1
  | 13 => 1
  | 18 => 1
  | 19 => 1
  | 20 => 1
  | 21 => 1
  | 22 => 1
  | 23 => 1
  | 26 => 1
  | 27 => 1
  | 32 => 1
  | 33 => 1
  | 36 => 1
  | 38 => 1
  | 40 => 1
  | 41 => 1
  | 42 => 1
  | 43 => 2
  | 45 => 1
  | 47 => 1
  | 48 => 1
  | 49 => 1
  | 50 => 3
  | 51 => 1
  | 52 => 1
  | 53 => 1
  | _ => 0
def mLn : Nat → Nat := fun k => match k with
  | 1 => 9
  | 2 => 9
  | 3 => 9
  | 4 => 9
  | 5 => 4
  | 7 => 120
  | 10 => 60
  | 11 => 60
  | 12 => 60
  | 13 => 200
  | 18 => 61
  | 19 => 61
  | 20 => 61
  | 21 => 200
  | 22 => 200
  | 23 => 6
  | 26 => 9
  | 27 => 4
  | 32 => 9
  | 33 => 4
  | 36 => 160
  | 38 => 50
  | 40 => 24
  | 41 => 6
  | 42 => 6
  | 43 => 360
  | 45 => 20
  | 47 => 4000
  | 48 => 4000
  | 49 => 18000
  | 50 => 4000
  | 51 => 1000
  | 52 => 9
  | 53 => 9
  | _ => 0
def jt (κ : jK) (t : Nat) : ClassId := (κ.2.2.2.1.getD t (0, .int)).1
/-- the types whose arrays occur -/
def jTy : List FieldType := [.int, .long, .boolean, .byte, .short, .object "NineKeysRound$Post", .object "NineKeysRound$Change", .object "NineKeysRound$Key", .object "NineKeysRound$Held"]
def jStd (κ : jK) : Prop := jOK κ ∧ κ.2.2.1 = jCl ∧ κ.2.2.2.1.map (fun q => q.2) = jTy
theorem jStd.ty {κ : jK} (h : jStd κ) (t : Nat) {ty : FieldType} (ht : jTy[t]? = some ty) : κ.2.2.2.1[t]? = some (jt κ t, ty) := by
  have h2 := h.2.2
  rw [← h2, List.getElem?_map] at ht
  unfold jt
  rcases hq : κ.2.2.2.1[t]? with _ | ⟨a, b⟩
  · rw [hq] at ht; cases ht
  · rw [hq] at ht
    have : b = ty := by simpa using ht
    rw [List.getD_eq_getElem?_getD, hq, this]
    rfl
def sI (T : MS) (k : Nat) (v : Int32) : MS := (upd T.1 k v, T.2)
def updA (f : Nat → Nat → Int32) (k : Nat) (g : Nat → Int32) : Nat → Nat → Int32 := fun k' => if k' = k then g else f k'
def sA (T : MS) (k j : Nat) (v : Int32) : MS := (T.1, updA T.2.1 k (upd (T.2.1 k) j v), T.2.2)
def sL (T : MS) (j : Nat) (v : Int64) : MS := (T.1, T.2.1, vp_updL T.2.2 j v)
def fvM (G : Nat → Nat) (T : MS) (k : Nat) : Value := if mKd k = 0 then .int (T.1 k) else .ref (G (k + 1))
def fsM (G : Nat → Nat) (T : MS) : List Value := (List.range 54).map (fvM G T)
def arM (κ : jK) (T : MS) (k : Nat) : va_E := match mKd k with
  | 1 => .inl (jt κ 0, mLn k, .inl (T.2.1 k))
  | 2 => .inl (jt κ 1, mLn k, .inr (.inl T.2.2))
  | _ => .inl (jt κ 2, mLn k, .inl (T.2.1 k))
def wM (κ : jK) (G : Nat → Nat) (T : MS) : jW := fun r => match r with
  | 0 => some (G 0, .inr (ciM, fsM G T))
  | k + 1 => if mKd k = 0 then none else some (G (k + 1), arM κ T k)
theorem fsM_at (G : Nat → Nat) (T : MS) {k : Nat} (hk : k < 54) : (fsM G T)[k]? = some (fvM G T k) := by
  unfold fsM
  rw [List.getElem?_map, List.getElem?_range hk]
  rfl
theorem fsM_len (G : Nat → Nat) (T : MS) : (fsM G T).length = 54 := by simp [fsM]
theorem fsM_set (G : Nat → Nat) (T : MS) {k : Nat} (hs : mKd k = 0) (v : Int32) : (fsM G T).set k (.int v) = fsM G (sI T k v) := by
  apply List.ext_getElem?
  intro i
  rw [List.getElem?_set]
  by_cases hi : i < 54
  · rw [fsM_at G T hi, fsM_at G _ hi]
    by_cases h : k = i
    · subst h
      rw [if_pos rfl, if_pos (by rw [fsM_len]; exact hi)]
      simp [fvM, hs, sI, upd]
    · rw [if_neg h]
      unfold fvM sI upd
      simp [Ne.symm h]
  · have h1 : (fsM G T)[i]? = none := List.getElem?_eq_none (by rw [fsM_len]; omega)
    have h2 : (fsM G (sI T k v))[i]? = none := List.getElem?_eq_none (by rw [fsM_len]; omega)
    rw [h1, h2]
    by_cases h : k = i
    · subst h
      rw [if_pos rfl, if_neg (by rw [fsM_len]; omega)]
    · rw [if_neg h]
theorem arM_sI (κ : jK) (T : MS) (k' k : Nat) (v : Int32) : arM κ (sI T k' v) k = arM κ T k := rfl
theorem wM_sI (κ : jK) (G : Nat → Nat) (T : MS) {k : Nat} (hs : mKd k = 0) (v : Int32) : jset (wM κ G T) 0 (G 0, .inr (ciM, (fsM G T).set k (.int v))) = wM κ G (sI T k v) := by
  funext r
  unfold jset
  cases r with
  | zero => rw [if_pos rfl, fsM_set G T hs]; rfl
  | succ r => rw [if_neg (by omega)]; rfl
theorem fsM_sA (G : Nat → Nat) (T : MS) (k j : Nat) (v : Int32) : fsM G (sA T k j v) = fsM G T := rfl
theorem wM_sA1 (κ : jK) (G : Nat → Nat) (T : MS) {k : Nat} (hs : mKd k = 1) (j : Nat) (v : Int32) : jset (wM κ G T) (k + 1) (G (k + 1), .inl (jt κ 0, mLn k, .inl (upd (T.2.1 k) j v))) = wM κ G (sA T k j v) := by
  funext r
  unfold jset
  cases r with
  | zero => rw [if_neg (by omega)]; rfl
  | succ r =>
    by_cases h : r = k
    · subst h
      rw [if_pos rfl]
      simp [wM, hs, arM, sA, updA]
    · rw [if_neg (by omega)]
      simp [wM, arM, sA, updA, h]
theorem wM_sA3 (κ : jK) (G : Nat → Nat) (T : MS) {k : Nat} (hs : mKd k = 3) (j : Nat) (v : Int32) : jset (wM κ G T) (k + 1) (G (k + 1), .inl (jt κ 2, mLn k, .inl (upd (T.2.1 k) j v))) = wM κ G (sA T k j v) := by
  funext r
  unfold jset
  cases r with
  | zero => rw [if_neg (by omega)]; rfl
  | succ r =>
    by_cases h : r = k
    · subst h
      rw [if_pos rfl]
      simp [wM, hs, arM, sA, updA]
    · rw [if_neg (by omega)]
      simp [wM, arM, sA, updA, h]
theorem mKd2 : ∀ k, mKd k = 2 → k = 43 := by
  intro k h
  unfold mKd at h
  split at h <;> first | rfl | (exfalso; revert h; decide)
theorem wM_sL (κ : jK) (G : Nat → Nat) (T : MS) {k : Nat} (hs : mKd k = 2) (j : Nat) (v : Int64) : jset (wM κ G T) (k + 1) (G (k + 1), .inl (jt κ 1, mLn k, .inr (.inl (vp_updL T.2.2 j v)))) = wM κ G (sL T j v) := by
  have hk := mKd2 k hs
  subst hk
  funext r
  unfold jset
  cases r with
  | zero => rw [if_neg (by omega)]; rfl
  | succ r =>
    by_cases h : r = 43
    · subst h
      rw [if_pos rfl]
      rfl
    · rw [if_neg (by omega)]
      by_cases h2 : mKd r = 2
      · exact absurd (mKd2 r h2) h
      · simp only [wM, sL]
        unfold arM
        split
        · rfl
        · split <;> first | rfl | (rename_i h3; exact absurd h3 h2)
section MROWS
variable {κ : jK} {Γ : jG} {σ : jS} {nL : Nat} {a b : Nat} {pc : Nat} {L : List (Option Value)} {st : List Value} {cc : ByteArray} {ret : Option FieldType} {G : Nat → Nat} {T : MS}
theorem jm_geti (hκ : jStd κ) (C : jC κ Γ cc nL RX2 ret) (k : Nat) (hk : k < 54) (hs : mKd k = 0) {index : Nat} (hlink : Cond.fieldLink RX2 index (TX2 k).1 (TX2 k).2.1 (TX2 k).2.2.1 ∈ lw_all) (hd : decode cc pc = .ok (.getfield index, 3)) (h : J κ Γ σ nL (wM κ G T) a b (pc + 3) L (.int (T.1 k) :: st)) : J κ Γ σ nL (wM κ G T) a b pc L (.ref (G 0) :: st) :=
  j_get C in_X2 0 rfl (by rw [hκ.2.1]; rfl) k hk hlink rfl (by rw [fsM_at G T hk]; unfold fvM; rw [if_pos hs]) hd h
theorem jm_geta (hκ : jStd κ) (C : jC κ Γ cc nL RX2 ret) (k : Nat) (hk : k < 54) (hs : (mKd k == 0) = false) {index : Nat} (hlink : Cond.fieldLink RX2 index (TX2 k).1 (TX2 k).2.1 (TX2 k).2.2.1 ∈ lw_all) (hd : decode cc pc = .ok (.getfield index, 3)) (h : J κ Γ σ nL (wM κ G T) a b (pc + 3) L (.ref (G (k + 1)) :: st)) : J κ Γ σ nL (wM κ G T) a b pc L (.ref (G 0) :: st) :=
  j_get C in_X2 0 rfl (by rw [hκ.2.1]; rfl) k hk hlink rfl (by rw [fsM_at G T hk]; unfold fvM; rw [if_neg (by simpa using hs)]) hd h
theorem jm_puti (hκ : jStd κ) (C : jC κ Γ cc nL RX2 ret) (k : Nat) (hk : k < 54) (hs : mKd k = 0) (hfin : (TX2 k).2.2.2 = false) {index : Nat} {x : Int32} (hty : tyX2 k = .int) (hlink : Cond.fieldLink RX2 index (TX2 k).1 (TX2 k).2.1 (TX2 k).2.2.1 ∈ lw_all) (hd : decode cc pc = .ok (.putfield index, 3)) (h : J κ Γ σ nL (wM κ G (sI T k x)) a b (pc + 3) L st) : J κ Γ σ nL (wM κ G T) a b pc L (.int x :: .ref (G 0) :: st) :=
  j_put C in_X2 tyX2 tyX2_ok nmX2 0 rfl (by rw [hκ.2.1]; rfl) k hk hlink rfl hfin hty rfl rfl (by rw [fsM_len]; exact hk) hd (by rw [wM_sI κ G T hs]; exact h)
theorem jm_putz (hκ : jStd κ) (C : jC κ Γ cc nL RX2 ret) (k : Nat) (hk : k < 54) (hs : mKd k = 0) (hfin : (TX2 k).2.2.2 = false) {index : Nat} {x : Int32} (hty : tyX2 k = .boolean) (hz : narrow .boolean (.int x) = .int x) (hz2 : fits .boolean (.int x) = true) (hlink : Cond.fieldLink RX2 index (TX2 k).1 (TX2 k).2.1 (TX2 k).2.2.1 ∈ lw_all) (hd : decode cc pc = .ok (.putfield index, 3)) (h : J κ Γ σ nL (wM κ G (sI T k x)) a b (pc + 3) L st) : J κ Γ σ nL (wM κ G T) a b pc L (.int x :: .ref (G 0) :: st) :=
  j_put C in_X2 tyX2 tyX2_ok nmX2 0 rfl (by rw [hκ.2.1]; rfl) k hk hlink rfl hfin hty hz hz2 (by rw [fsM_len]; exact hk) hd (by rw [wM_sI κ G T hs]; exact h)
theorem wM_ar {k : Nat} (hs : (mKd k == 0) = false) : wM κ G T (k + 1) = some (G (k + 1), arM κ T k) := by
  show (if mKd k = 0 then none else some (G (k + 1), arM κ T k)) = _
  rw [if_neg (by simpa using hs)]
theorem arM1 {k : Nat} (hs : mKd k = 1) : arM κ T k = .inl (jt κ 0, mLn k, .inl (T.2.1 k)) := by unfold arM; rw [hs]; rfl
theorem arM2 {k : Nat} (hs : mKd k = 2) : arM κ T k = .inl (jt κ 1, mLn k, .inr (.inl T.2.2)) := by unfold arM; rw [hs]; rfl
theorem arM3 {k : Nat} (hs : mKd k = 3) : arM κ T k = .inl (jt κ 2, mLn k, .inl (T.2.1 k)) := by unfold arM; rw [hs]; rfl
theorem jm_iald (hκ : jStd κ) (C : jC κ Γ cc nL RX2 ret) (k : Nat) (hs : mKd k = 1) {i : Int32} (hin : vp_in i (mLn k)) (hd : decode cc pc = .ok (.iaload, 1)) (h : J κ Γ σ nL (wM κ G T) a b (pc + 1) L (.int (T.2.1 k i.toNatClampNeg) :: st)) : J κ Γ σ nL (wM κ G T) a b pc L (.int i :: .ref (G (k + 1)) :: st) :=
  j_iald C (k + 1) 0 (by rw [wM_ar (by rw [hs]; rfl), arM1 hs]) (hκ.ty 0 rfl) hin hd h
theorem jm_zald (hκ : jStd κ) (C : jC κ Γ cc nL RX2 ret) (k : Nat) (hs : mKd k = 3) {i : Int32} (hin : vp_in i (mLn k)) (hd : decode cc pc = .ok (.baload, 1)) (h : J κ Γ σ nL (wM κ G T) a b (pc + 1) L (.int (T.2.1 k i.toNatClampNeg) :: st)) : J κ Γ σ nL (wM κ G T) a b pc L (.int i :: .ref (G (k + 1)) :: st) :=
  j_zald C (k + 1) 2 (by rw [wM_ar (by rw [hs]; rfl), arM3 hs]) (hκ.ty 2 rfl) hin hd h
theorem jm_lald (hκ : jStd κ) (C : jC κ Γ cc nL RX2 ret) (k : Nat) (hs : mKd k = 2) {i : Int32} (hin : vp_in i (mLn k)) (hd : decode cc pc = .ok (.laload, 1)) (h : J κ Γ σ nL (wM κ G T) a b (pc + 1) L (.long (T.2.2 i.toNatClampNeg) :: st)) : J κ Γ σ nL (wM κ G T) a b pc L (.int i :: .ref (G (k + 1)) :: st) :=
  j_lald C (k + 1) 1 (by rw [wM_ar (by rw [hs]; rfl), arM2 hs]) (hκ.ty 1 rfl) hin hd h
theorem jm_iast (hκ : jStd κ) (C : jC κ Γ cc nL RX2 ret) (k : Nat) (hs : mKd k = 1) {i x : Int32} (hin : vp_in i (mLn k)) (hd : decode cc pc = .ok (.iastore, 1)) (h : J κ Γ σ nL (wM κ G (sA T k i.toNatClampNeg x)) a b (pc + 1) L st) : J κ Γ σ nL (wM κ G T) a b pc L (.int x :: .int i :: .ref (G (k + 1)) :: st) :=
  j_iast C (k + 1) 0 (by rw [wM_ar (by rw [hs]; rfl), arM1 hs]) (hκ.ty 0 rfl) hin hd (by rw [wM_sA1 κ G T hs]; exact h)
theorem jm_zast (hκ : jStd κ) (C : jC κ Γ cc nL RX2 ret) (k : Nat) (hs : mKd k = 3) {i x : Int32} (hin : vp_in i (mLn k)) (hd : decode cc pc = .ok (.bastore, 1)) (h : J κ Γ σ nL (wM κ G (sA T k i.toNatClampNeg (vp_nar .boolean x))) a b (pc + 1) L st) : J κ Γ σ nL (wM κ G T) a b pc L (.int x :: .int i :: .ref (G (k + 1)) :: st) :=
  j_zast C (k + 1) 2 (by rw [wM_ar (by rw [hs]; rfl), arM3 hs]) (hκ.ty 2 rfl) hin hd (by rw [wM_sA3 κ G T hs]; exact h)
theorem jm_last (hκ : jStd κ) (C : jC κ Γ cc nL RX2 ret) (k : Nat) (hs : mKd k = 2) {i : Int32} {x : Int64} (hin : vp_in i (mLn k)) (hd : decode cc pc = .ok (.lastore, 1)) (h : J κ Γ σ nL (wM κ G (sL T i.toNatClampNeg x)) a b (pc + 1) L st) : J κ Γ σ nL (wM κ G T) a b pc L (.long x :: .int i :: .ref (G (k + 1)) :: st) :=
  j_last C (k + 1) 1 (by rw [wM_ar (by rw [hs]; rfl), arM2 hs]) (hκ.ty 1 rfl) hin hd (by rw [wM_sL κ G T hs]; exact h)
theorem jm_ialdK (hκ : jStd κ) (C : jC κ Γ cc nL RX2 ret) (k j : Nat) (hs : mKd k = 1) {i : Int32} (hi : i.toNatClampNeg = j) (hin : vp_in i (mLn k)) (hd : decode cc pc = .ok (.iaload, 1)) (h : J κ Γ σ nL (wM κ G T) a b (pc + 1) L (.int (T.2.1 k j) :: st)) : J κ Γ σ nL (wM κ G T) a b pc L (.int i :: .ref (G (k + 1)) :: st) :=
  jm_iald hκ C k hs hin hd (by rw [hi]; exact h)
theorem jm_iastK (hκ : jStd κ) (C : jC κ Γ cc nL RX2 ret) (k j : Nat) (hs : mKd k = 1) {i x : Int32} (hi : i.toNatClampNeg = j) (hin : vp_in i (mLn k)) (hd : decode cc pc = .ok (.iastore, 1)) (h : J κ Γ σ nL (wM κ G (sA T k j x)) a b (pc + 1) L st) : J κ Γ σ nL (wM κ G T) a b pc L (.int x :: .int i :: .ref (G (k + 1)) :: st) :=
  jm_iast hκ C k hs hin hd (by rw [hi]; exact h)
theorem jm_V (hκ : jStd κ) (C : jC κ Γ cc nL RX2 ret) {y : MethodName} {b2 : ByteArray} {maxL f index N : Nat} {r2 : Option FieldType} {As : List Value} {x : Option Value} {T' : MS}
    (hM : jM κ y (ws_ y b2 maxL r2) f 0 0 (.ref (G 0) :: As) (wM κ G T) (fun v u => v = x ∧ u = wM κ G T')) (hG : GoodIn lw_all (wsV RX2 index y.cls y (ws_ y b2 maxL r2))) (hy : y.cls ≠ "java/lang/invoke/MethodHandle" ∧ y.cls ≠ "java/lang/invoke/VarHandle" ∧ (parseMethodDescriptor y.desc).map (fun d => d.parameters.length) = some N) (hn : As.length = N) (hq : RX2 = y.cls) (hd : decode cc pc = .ok (.invokevirtual index, 3)) (hfit : jfit σ f 0 0 a b maxL st) {st0 : List Value} (hst : st0 = As.reverse ++ .ref (G 0) :: st)
    (h : J κ Γ σ nL (wM κ G T') a b (pc + 3) L (x.toList ++ st)) : J κ Γ σ nL (wM κ G T) a b pc L st0 :=
  j_V hκ.1 C hM hG hy hn (r := 0) rfl (ci := ciM) (q := (RX2, TX2, 54)) (by rw [hκ.2.1]; rfl) hq hd hfit hst h
theorem jm_Vi (hκ : jStd κ) (C : jC κ Γ cc nL RX2 ret) {y : MethodName} {b2 : ByteArray} {maxL f index N : Nat} {r2 : Option FieldType} {As : List Value} {x : Int32} {T' : MS}
    (hM : jM κ y (ws_ y b2 maxL r2) f 0 0 (.ref (G 0) :: As) (wM κ G T) (fun v u => v = (some (.int x)) ∧ u = wM κ G T')) (hG : GoodIn lw_all (wsV RX2 index y.cls y (ws_ y b2 maxL r2))) (hy : y.cls ≠ "java/lang/invoke/MethodHandle" ∧ y.cls ≠ "java/lang/invoke/VarHandle" ∧ (parseMethodDescriptor y.desc).map (fun d => d.parameters.length) = some N) (hn : As.length = N) (hq : RX2 = y.cls) (hd : decode cc pc = .ok (.invokevirtual index, 3)) (hfit : jfit σ f 0 0 a b maxL st) {st0 : List Value} (hst : st0 = As.reverse ++ .ref (G 0) :: st)
    (h : J κ Γ σ nL (wM κ G T') a b (pc + 3) L (.int x :: st)) : J κ Γ σ nL (wM κ G T) a b pc L st0 :=
  j_V hκ.1 C hM hG hy hn (r := 0) rfl (ci := ciM) (q := (RX2, TX2, 54)) (by rw [hκ.2.1]; rfl) hq hd hfit hst h
theorem jm_Vl (hκ : jStd κ) (C : jC κ Γ cc nL RX2 ret) {y : MethodName} {b2 : ByteArray} {maxL f index N : Nat} {r2 : Option FieldType} {As : List Value} {x : Int64} {T' : MS}
    (hM : jM κ y (ws_ y b2 maxL r2) f 0 0 (.ref (G 0) :: As) (wM κ G T) (fun v u => v = (some (.long x)) ∧ u = wM κ G T')) (hG : GoodIn lw_all (wsV RX2 index y.cls y (ws_ y b2 maxL r2))) (hy : y.cls ≠ "java/lang/invoke/MethodHandle" ∧ y.cls ≠ "java/lang/invoke/VarHandle" ∧ (parseMethodDescriptor y.desc).map (fun d => d.parameters.length) = some N) (hn : As.length = N) (hq : RX2 = y.cls) (hd : decode cc pc = .ok (.invokevirtual index, 3)) (hfit : jfit σ f 0 0 a b maxL st) {st0 : List Value} (hst : st0 = As.reverse ++ .ref (G 0) :: st)
    (h : J κ Γ σ nL (wM κ G T') a b (pc + 3) L (.long x :: st)) : J κ Γ σ nL (wM κ G T) a b pc L st0 :=
  j_V hκ.1 C hM hG hy hn (r := 0) rfl (ci := ciM) (q := (RX2, TX2, 54)) (by rw [hκ.2.1]; rfl) hq hd hfit hst h
theorem jm_Vv (hκ : jStd κ) (C : jC κ Γ cc nL RX2 ret) {y : MethodName} {b2 : ByteArray} {maxL f index N : Nat} {r2 : Option FieldType} {As : List Value}  {T' : MS}
    (hM : jM κ y (ws_ y b2 maxL r2) f 0 0 (.ref (G 0) :: As) (wM κ G T) (fun v u => v = none ∧ u = wM κ G T')) (hG : GoodIn lw_all (wsV RX2 index y.cls y (ws_ y b2 maxL r2))) (hy : y.cls ≠ "java/lang/invoke/MethodHandle" ∧ y.cls ≠ "java/lang/invoke/VarHandle" ∧ (parseMethodDescriptor y.desc).map (fun d => d.parameters.length) = some N) (hn : As.length = N) (hq : RX2 = y.cls) (hd : decode cc pc = .ok (.invokevirtual index, 3)) (hfit : jfit σ f 0 0 a b maxL st) {st0 : List Value} (hst : st0 = As.reverse ++ .ref (G 0) :: st)
    (h : J κ Γ σ nL (wM κ G T') a b (pc + 3) L (st)) : J κ Γ σ nL (wM κ G T) a b pc L st0 :=
  j_V hκ.1 C hM hG hy hn (r := 0) rfl (ci := ciM) (q := (RX2, TX2, 54)) (by rw [hκ.2.1]; rfl) hq hd hfit hst h
theorem vp_nar_b2i (z : Bool) : vp_nar .boolean (b2i z) = b2i z := by cases z <;> rfl
theorem jm_zastB (hκ : jStd κ) (C : jC κ Γ cc nL RX2 ret) (k : Nat) (hs : mKd k = 3) {i : Int32} {x : Bool} (hin : vp_in i (mLn k)) (hd : decode cc pc = .ok (.bastore, 1)) (h : J κ Γ σ nL (wM κ G (sA T k i.toNatClampNeg (b2i x))) a b (pc + 1) L st) : J κ Γ σ nL (wM κ G T) a b pc L (.int (b2i x) :: .int i :: .ref (G (k + 1)) :: st) :=
  jm_zast hκ C k hs hin hd (by rw [vp_nar_b2i]; exact h)
/-- naming -/
theorem jm_nmT {w : MS} {α : Type} {r : α} {f : MS → Option α} (h : nm w f = some r) (K : ∀ T : MS, f T = some r → J κ Γ σ nL (wM κ G T) a b pc L st) : J κ Γ σ nL (wM κ G w) a b pc L st := K w h
end MROWS

