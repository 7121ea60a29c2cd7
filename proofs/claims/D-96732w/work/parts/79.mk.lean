/-! THE TWO GREAT CONSTRUCTORS. Own text, printed by mk.py. -/
set_option maxRecDepth 100000

def gset (G : Nat → Nat) (r q : Nat) : Nat → Nat := fun r' => if r' = r then q else G r'
theorem mKd_ge : ∀ k, 54 ≤ k → mKd k = 0 := by
  intro k h
  unfold mKd
  split <;> first | omega | rfl
theorem xKd_ge : ∀ k, 50 ≤ k → xKd k = 0 := by
  intro k h
  unfold xKd
  split <;> first | omega | rfl
/-! the reference half made: Ks are the fields whose arrays stand -/
def fvMp (G : Nat → Nat) (T : MS) (Ks : List Nat) (k : Nat) : Value := if mKd k = 0 then .int (T.1 k) else if Ks.contains k then .ref (G (k + 1)) else .null
def fsMp (G : Nat → Nat) (T : MS) (Ks : List Nat) : List Value := (List.range 54).map (fvMp G T Ks)
def pM (κ : jK) (G : Nat → Nat) (T : MS) (Ks : List Nat) : jW := fun r => match r with
  | 0 => some (G 0, .inr (ciM, fsMp G T Ks))
  | k + 1 => if Ks.contains k then some (G (k + 1), arM κ T k) else none
theorem pM_mk (κ : jK) (G : Nat → Nat) (T : MS) (Ks : List Nat) {k q : Nat} (hk : mKd k ≠ 0) : jset (jset (pM κ G T Ks) (k + 1) (q, arM κ T k)) 0 (G 0, .inr (ciM, (fsMp G T Ks).set k (.ref q))) = pM κ (gset G (k + 1) q) T (k :: Ks) := by
  have e : (fsMp G T Ks).set k (.ref q) = fsMp (gset G (k + 1) q) T (k :: Ks) := by
    unfold fsMp
    refine map_set _ ?_ ?_
    · simp [fvMp, hk, gset]
    · intro i hi
      unfold fvMp gset
      simp [hi]
  funext r
  unfold jset
  cases r with
  | zero => rw [if_pos rfl, e]; rfl
  | succ r =>
    rw [if_neg (by omega)]
    by_cases hr : r = k
    · subst hr
      rw [if_pos rfl]
      show _ = (if (r :: Ks).contains r then some (gset G (r + 1) q (r + 1), arM κ T r) else none)
      rw [if_pos (by simp)]
      simp [gset]
    · rw [if_neg (by omega)]
      show (if Ks.contains r then some (G (r + 1), arM κ T r) else none) = (if (k :: Ks).contains r then some (gset G (k + 1) q (r + 1), arM κ T r) else none)
      have h1 : gset G (k + 1) q (r + 1) = G (r + 1) := by unfold gset; rw [if_neg (by omega)]
      rw [h1]
      simp [hr]
theorem pM_wM (κ : jK) (G : Nat → Nat) (T : MS) {Ks : List Nat} (h1 : (List.range 54).all (fun k => Ks.contains k == (mKd k != 0)) = true) (h2 : Ks.all (fun k => decide (k < 54)) = true) : pM κ G T Ks = wM κ G T := by
  have hc : ∀ k, Ks.contains k = (mKd k != 0) := by
    intro k
    by_cases hk : k < 54
    · have := List.all_eq_true.mp h1 k (List.mem_range.mpr hk)
      simpa using this
    · rw [mKd_ge k (by omega)]
      cases hq : Ks.contains k with
      | false => rfl
      | true =>
        have := List.all_eq_true.mp h2 k (by simpa using hq)
        have := of_decide_eq_true this
        omega
  funext r
  cases r with
  | zero =>
    have e : fsMp G T Ks = fsM G T := by
      unfold fsMp fsM
      refine List.map_congr_left fun k _ => ?_
      unfold fvMp fvM
      rw [hc k]
      by_cases h : mKd k = 0 <;> simp [h]
    show some (G 0, Sum.inr (ciM, fsMp G T Ks)) = some (G 0, Sum.inr (ciM, fsM G T))
    rw [e]
  | succ k =>
    show (if Ks.contains k then some (G (k + 1), arM κ T k) else none) = (if mKd k = 0 then none else some (G (k + 1), arM κ T k))
    rw [hc k]
    by_cases h : mKd k = 0 <;> simp [h]
/-! the component half made -/
def fvXp (G : Nat → Nat) (S : XS) (Ks : List Nat) (k : Nat) : Value := if xKd k = 0 then .int (S.1 k) else if xKd k = 7 then va_rf (S.2.2.1 k 0) else if Ks.contains k then .ref (G (k + 1)) else .null
def fsXp (G : Nat → Nat) (S : XS) (Ks : List Nat) : List Value := (List.range 49).map (fvXp G S Ks)
def pX (κ : jK) (G : Nat → Nat) (S : XS) (Ks : List Nat) : jW := fun r => if r = 0 then some (G 0, .inr (ciX0, fsXp G S Ks)) else if r ≤ 50 ∧ Ks.contains (r - 1) = true then some (G r, arX κ G S (r - 1)) else none
theorem pX_sI (κ : jK) (G : Nat → Nat) (S : XS) (Ks : List Nat) {k : Nat} (hs : xKd k = 0) (v : Int32) : jset (pX κ G S Ks) 0 (G 0, .inr (ciX0, (fsXp G S Ks).set k (.int v))) = pX κ G (xI S k v) Ks := by
  have e : (fsXp G S Ks).set k (.int v) = fsXp G (xI S k v) Ks := by
    unfold fsXp
    refine map_set _ ?_ ?_
    · simp [fvXp, hs, xI, upd]
    · intro i hi
      simp only [fvXp, xI, upd]
      rw [if_neg hi]
  rw [e]
  funext r
  unfold jset
  by_cases hr : r = 0
  · subst hr; rw [if_pos rfl]; rfl
  · rw [if_neg hr]
    simp only [pX, hr, if_false]
    rfl
theorem pX_mk (κ : jK) (G : Nat → Nat) (S : XS) (Ks : List Nat) {k q : Nat} (hk : (xKd k == 0) = false) (hk7 : (xKd k == 7) = false) (hk6 : (xKd k == 6) = false) (hlt : k < 49) : jset (jset (pX κ G S Ks) (k + 1) (q, arX κ G S k)) 0 (G 0, .inr (ciX0, (fsXp G S Ks).set k (.ref q))) = pX κ (gset G (k + 1) q) S (k :: Ks) := by
  have hk0 : xKd k ≠ 0 := by simpa using hk
  have hk7' : xKd k ≠ 7 := by simpa using hk7
  have e : (fsXp G S Ks).set k (.ref q) = fsXp (gset G (k + 1) q) S (k :: Ks) := by
    unfold fsXp
    refine map_set _ ?_ ?_
    · simp [fvXp, hk0, hk7', gset]
    · intro i hi
      unfold fvXp gset
      simp [hi]
  have ea : ∀ j, arX κ (gset G (k + 1) q) S j = arX κ G S j := by
    intro j
    unfold arX
    have : gset G (k + 1) q 50 = G 50 := by unfold gset; rw [if_neg (by omega)]
    rw [this]
  funext r
  unfold jset
  by_cases hr : r = 0
  · subst hr
    rw [if_pos rfl, e]
    rfl
  · rw [if_neg hr]
    by_cases hrk : r = k + 1
    · subst hrk
      rw [if_pos rfl]
      unfold pX
      rw [if_neg hr, if_pos ⟨by omega, by simp⟩, ea]
      simp [gset]
    · rw [if_neg hrk]
      unfold pX
      rw [if_neg hr, if_neg hr, ea]
      have h1 : gset G (k + 1) q r = G r := by unfold gset; rw [if_neg hrk]
      have h2 : (k :: Ks).contains (r - 1) = Ks.contains (r - 1) := by
        have : ¬ (r - 1 = k) := by omega
        simp [this]
      rw [h1, h2]
theorem pX_facts (κ : jK) (G : Nat → Nat) (S : XS) {Ks : List Nat} {q b : Nat} (z : S.2.1 49 = fun _ => 0) : jset (jset (jset (pX κ G S Ks) 50 (b, .inl (jt κ 0, 128, .inl fun _ => 0))) 13 (q, .inr (ciX1, [.ref b]))) 0 (G 0, .inr (ciX0, (fsXp G S Ks).set 12 (.ref q))) = pX κ (gset (gset G 50 b) 13 q) S (12 :: 49 :: Ks) := by
  have e : (fsXp G S Ks).set 12 (.ref q) = fsXp (gset (gset G 50 b) 13 q) S (12 :: 49 :: Ks) := by
    unfold fsXp
    refine List.ext_getElem? fun i => ?_
    rw [List.getElem?_set]
    by_cases hi : i < 49
    · rw [List.getElem?_map, List.getElem?_map, List.getElem?_range hi]
      by_cases h : 12 = i
      · subst h
        rw [if_pos rfl, if_pos (by simp)]
        rfl
      · rw [if_neg h]
        show some (fvXp G S Ks i) = some (fvXp (gset (gset G 50 b) 13 q) S (12 :: 49 :: Ks) i)
        unfold fvXp gset
        have h1 : ¬ (i + 1 = 13) := by omega
        have h2 : ¬ (i + 1 = 50) := by omega
        have h3 : ¬ (i = 12) := by omega
        have h4 : ¬ (i = 49) := by omega
        simp [h1, h2, h3, h4]
    · have e1 : ((List.range 49).map (fvXp G S Ks))[i]? = none := List.getElem?_eq_none (by simp; omega)
      have e2 : ((List.range 49).map (fvXp (gset (gset G 50 b) 13 q) S (12 :: 49 :: Ks)))[i]? = none := List.getElem?_eq_none (by simp; omega)
      rw [e1, e2, if_neg (by omega)]
  have g50 : gset (gset G 50 b) 13 q 50 = b := rfl
  funext r
  unfold jset
  by_cases hr : r = 0
  · subst hr
    rw [if_pos rfl, e]
    rfl
  · rw [if_neg hr]
    by_cases h13 : r = 13
    · subst h13; rfl
    · rw [if_neg h13]
      by_cases h50 : r = 50
      · subst h50
        rw [if_pos rfl]
        unfold pX
        rw [if_neg hr, if_pos ⟨by omega, by simp⟩]
        show some (b, (Sum.inl (jt κ 0, 128, .inl fun _ => 0) : va_E)) = some (b, Sum.inl (jt κ 0, 128, .inl (S.2.1 49)))
        rw [z]
      · rw [if_neg h50]
        unfold pX
        rw [if_neg hr, if_neg hr]
        have h1 : gset (gset G 50 b) 13 q r = G r := by unfold gset; rw [if_neg h13, if_neg h50]
        have h2 : (12 :: 49 :: Ks).contains (r - 1) = Ks.contains (r - 1) := by
          have a1 : ¬ (r - 1 = 12) := by omega
          have a2 : ¬ (r - 1 = 49) := by omega
          simp [a1, a2]
        rw [h1, h2]
        by_cases hc : r ≤ 50 ∧ Ks.contains (r - 1) = true
        · rw [if_pos hc, if_pos hc]
          have h3 : xKd (r - 1) ≠ 6 := by
            intro h6
            have : ∀ k, xKd k = 6 → k = 12 := by
              intro k h
              unfold xKd at h
              split at h <;> first | rfl | (exfalso; revert h; decide)
            have := this _ h6
            omega
          unfold arX
          split <;> first | rfl | contradiction
        · rw [if_neg hc, if_neg hc]
theorem pX_wX (κ : jK) (G : Nat → Nat) (S : XS) (hO : ∀ q, S.2.2.2 q = none) {Ks : List Nat} (h1 : (List.range 50).all (fun k => Ks.contains k == (xKd k != 0 && xKd k != 7)) = true) : pX κ G S Ks = wX κ G S := by
  have hc : ∀ k, k < 50 → Ks.contains k = (xKd k != 0 && xKd k != 7) := by
    intro k hk
    have := List.all_eq_true.mp h1 k (List.mem_range.mpr hk)
    simpa using this
  have e : fsXp G S Ks = fsX G S := by
    unfold fsXp fsX
    refine List.map_congr_left fun k hk => ?_
    unfold fvXp fvX
    rw [hc k (by have := List.mem_range.mp hk; omega)]
    by_cases h : xKd k = 0
    · simp [h]
    · by_cases h7 : xKd k = 7 <;> simp [h, h7]
  funext r
  unfold pX wX
  rw [e]
  by_cases hr : r = 0
  · rw [if_pos hr, if_pos hr]
  · rw [if_neg hr, if_neg hr]
    by_cases h5 : r ≤ 50
    · rw [if_pos h5, hc (r - 1) (by omega)]
      by_cases h : xKd (r - 1) = 0
      · simp [h]
      · by_cases h7 : xKd (r - 1) = 7 <;> simp [h, h7, h5]
    · rw [if_neg (by omega), if_neg h5, hO]
      simp


section MKR
variable {κ : jK} {Γ : jG} {σ : jS} {nL : Nat} {kc n : Nat} {pc : Nat} {L : List (Option Value)} {st : List Value} {cc : ByteArray} {ret : Option FieldType} {G : Nat → Nat} {a q : Nat} {Ks : List Nat}
theorem jm_mk (hκ : jStd κ) (C : jC κ Γ cc nL RX2 ret) (hnm : jnm Γ "<init>") {T : MS} (k : Nat) {E : FieldType} (hk : (mKd k == 0) = false) (hk54 : k < 54) (hfin : (TX2 k).2.2.2 = true) (hdecl : (TX2 k).1 = RX2) (hty : tyX2 k = .array E) {index : Nat} (hlink : Cond.fieldLink RX2 index (TX2 k).1 (TX2 k).2.1 (TX2 k).2.2.1 ∈ lw_all) (hd : decode cc pc = .ok (.putfield index, 3)) (hG : G 0 = a)
    (h : ∀ G' : Nat → Nat, G' 0 = a → J κ Γ σ nL (pM κ G' T (k :: Ks)) kc n (pc + 3) L st) : J κ Γ σ nL (jset (pM κ G T Ks) (k + 1) (q, arM κ T k)) kc n pc L (.ref q :: .ref a :: st) := by
  subst hG
  refine j_putF C hnm in_X2 tyX2 tyX2_ok nmX2 0 (a := G 0) (fs := fsMp G T Ks) rfl (by rw [hκ.2.1]; rfl) k hk54 hlink rfl hdecl hfin hty (v := .ref q) rfl rfl (by simpa [fsMp] using hk54) hd ?_
  rw [pM_mk κ G T Ks (by simpa using hk)]
  exact h _ rfl
theorem jx_mk (hκ : jX κ) (C : jC κ Γ cc nL RX0 ret) (hnm : jnm Γ "<init>") {S : XS} (k : Nat) {E : FieldType} (hk : (xKd k == 0) = false) (hk7 : (xKd k == 7) = false) (hk6 : (xKd k == 6) = false) (hk54 : k < 49) (hfin : (TX0 k).2.2.2 = true) (hdecl : (TX0 k).1 = RX0) (hty : tyX0 k = .array E) {index : Nat} (hlink : Cond.fieldLink RX0 index (TX0 k).1 (TX0 k).2.1 (TX0 k).2.2.1 ∈ lw_all) (hd : decode cc pc = .ok (.putfield index, 3)) (hG : G 0 = a)
    (h : ∀ G' : Nat → Nat, G' 0 = a → J κ Γ σ nL (pX κ G' S (k :: Ks)) kc n (pc + 3) L st) : J κ Γ σ nL (jset (pX κ G S Ks) (k + 1) (q, arX κ G S k)) kc n pc L (.ref q :: .ref a :: st) := by
  subst hG
  refine j_putF C hnm in_X0 tyX0 tyX0_ok nmX0 0 (a := G 0) (fs := fsXp G S Ks) rfl (hκ.cl rfl) k hk54 hlink rfl hdecl hfin hty (v := .ref q) rfl rfl (by simpa [fsXp] using hk54) hd ?_
  rw [pX_mk κ G S Ks hk hk7 hk6 hk54]
  exact h _ rfl
theorem jx_mkI (hκ : jX κ) (C : jC κ Γ cc nL RX0 ret) {S : XS} (k : Nat) (hk : xKd k = 0) (hk54 : k < 49) (hfin : (TX0 k).2.2.2 = false) {v : Int32} (hty : tyX0 k = .int) {index : Nat} (hlink : Cond.fieldLink RX0 index (TX0 k).1 (TX0 k).2.1 (TX0 k).2.2.1 ∈ lw_all) (hrf : (TX0 k).1 = RX0) (hd : decode cc pc = .ok (.putfield index, 3)) (hG : G 0 = a)
    (h : J κ Γ σ nL (pX κ G (xI S k v) Ks) kc n (pc + 3) L st) : J κ Γ σ nL (pX κ G S Ks) kc n pc L (.int v :: .ref a :: st) := by
  subst hG
  refine j_put C in_X0 tyX0 tyX0_ok nmX0 0 (a := G 0) (fs := fsXp G S Ks) rfl (hκ.cl rfl) k hk54 hlink rfl hfin hty (v := .int v) rfl rfl (by simpa [fsXp] using hk54) hd ?_
  rw [pX_sI κ G S Ks hk]
  exact h
end MKR

def mZ : MS := (fun _ => 0, fun _ _ => 0, fun _ => 0)
/-- the reference as it is made -/
def mInit : MS := (sA (sA (sA (sA (sA (sA (sI (sA (sA mZ 5 2 1) 5 3 1) 24 (-1)) 41 0 (-1)) 41 1 (-1)) 41 2 (-1)) 41 3 (-1)) 41 4 (-1)) 41 5 (-1))
theorem mt_m_init {κ : jK} (hκ : jStd κ) (a : Nat) : jM κ yX2_init (ws_ yX2_init cX2_init 2 none) 2 34 32799 [.ref a] (pM κ (fun _ => a) mZ []) (fun u w' => u = none ∧ ∃ G : Nat → Nat, G 0 = a ∧ w' = wM κ G mInit) := by
  refine jM.of (by decide) rfl (Nat.le_of_ble_eq_true rfl) fun Γ C hnm => ?_
  show J κ Γ (2, 34, 32799, (fun u w' => u = none ∧ ∃ G : Nat → Nat, G 0 = a ∧ w' = wM κ G mInit)) 2 (pM κ (fun _ => a) mZ []) 0 0 0 [some (.ref a), none] []
  have hG0 : (fun _ : Nat => a) 0 = a := rfl
  generalize (fun _ : Nat => a) = G0 at hG0 ⊢
  refine j_aload_n C dX2_init_0 rfl rfl ?_
  refine j_objInit C q1636 q163 q164 dX2_init_1 (Nat.le_of_ble_eq_true rfl) (by decide) ?_
  refine j_aload_n C dX2_init_4 rfl rfl ?_
  refine j_bipush C (v := 9) dX2_init_5 rfl ?_
  refine j_newarr C (ty := .int) rfl q182 (t0 := 0) (hκ.ty 0 rfl) (fun _ h => by cases h) (N' := 9) (a0 := (9, .inl fun _ => 0)) (fun cA => rfl) (by decide) rfl (Nat.le_of_ble_eq_true rfl) (Nat.le_of_ble_eq_true rfl) (Nat.le_of_ble_eq_true rfl) (fun _ => 2) dX2_init_7 (fun q0 _ => ?_)
  refine j_world (w' := jset (pM κ G0 mZ []) (1 + 1) (q0, arM κ mZ 1)) rfl ?_
  refine jm_mk hκ C hnm 1 rfl (by decide) rfl rfl rfl q1638 dX2_init_9 hG0 (fun G1 hG1 => ?_)
  refine j_aload_n C dX2_init_12 rfl rfl ?_
  refine j_bipush C (v := 9) dX2_init_13 rfl ?_
  refine j_newarr C (ty := .int) rfl q182 (t0 := 0) (hκ.ty 0 rfl) (fun _ h => by cases h) (N' := 9) (a0 := (9, .inl fun _ => 0)) (fun cA => rfl) (by decide) rfl (Nat.le_of_ble_eq_true rfl) (Nat.le_of_ble_eq_true rfl) (Nat.le_of_ble_eq_true rfl) (fun _ => 3) dX2_init_15 (fun q1 _ => ?_)
  refine j_world (w' := jset (pM κ G1 mZ [1]) (2 + 1) (q1, arM κ mZ 2)) rfl ?_
  refine jm_mk hκ C hnm 2 rfl (by decide) rfl rfl rfl q1639 dX2_init_17 hG1 (fun G2 hG2 => ?_)
  refine j_aload_n C dX2_init_20 rfl rfl ?_
  refine j_bipush C (v := 9) dX2_init_21 rfl ?_
  refine j_newarr C (ty := .int) rfl q182 (t0 := 0) (hκ.ty 0 rfl) (fun _ h => by cases h) (N' := 9) (a0 := (9, .inl fun _ => 0)) (fun cA => rfl) (by decide) rfl (Nat.le_of_ble_eq_true rfl) (Nat.le_of_ble_eq_true rfl) (Nat.le_of_ble_eq_true rfl) (fun _ => 4) dX2_init_23 (fun q2 _ => ?_)
  refine j_world (w' := jset (pM κ G2 mZ [2, 1]) (3 + 1) (q2, arM κ mZ 3)) rfl ?_
  refine jm_mk hκ C hnm 3 rfl (by decide) rfl rfl rfl q1640 dX2_init_25 hG2 (fun G3 hG3 => ?_)
  refine j_aload_n C dX2_init_28 rfl rfl ?_
  refine j_bipush C (v := 9) dX2_init_29 rfl ?_
  refine j_newarr C (ty := .int) rfl q182 (t0 := 0) (hκ.ty 0 rfl) (fun _ h => by cases h) (N' := 9) (a0 := (9, .inl fun _ => 0)) (fun cA => rfl) (by decide) rfl (Nat.le_of_ble_eq_true rfl) (Nat.le_of_ble_eq_true rfl) (Nat.le_of_ble_eq_true rfl) (fun _ => 5) dX2_init_31 (fun q3 _ => ?_)
  refine j_world (w' := jset (pM κ G3 mZ [3, 2, 1]) (4 + 1) (q3, arM κ mZ 4)) rfl ?_
  refine jm_mk hκ C hnm 4 rfl (by decide) rfl rfl rfl q1641 dX2_init_33 hG3 (fun G4 hG4 => ?_)
  refine j_aload_n C dX2_init_36 rfl rfl ?_
  refine j_iconst C (v := 4) dX2_init_37 rfl ?_
  refine j_newarr C (ty := .int) rfl q182 (t0 := 0) (hκ.ty 0 rfl) (fun _ h => by cases h) (N' := 4) (a0 := (4, .inl fun _ => 0)) (fun cA => rfl) (by decide) rfl (Nat.le_of_ble_eq_true rfl) (Nat.le_of_ble_eq_true rfl) (Nat.le_of_ble_eq_true rfl) (fun _ => 6) dX2_init_38 (fun q4 _ => ?_)
  refine j_world (w' := jset (pM κ G4 mZ [4, 3, 2, 1]) (5 + 1) (q4, arM κ mZ 5)) rfl ?_
  refine jm_mk hκ C hnm 5 rfl (by decide) rfl rfl rfl q1642 dX2_init_40 hG4 (fun G5 hG5 => ?_)
  refine j_aload_n C dX2_init_43 rfl rfl ?_
  refine j_bipush C (v := 120) dX2_init_44 rfl ?_
  refine j_newarr C (ty := .int) rfl q182 (t0 := 0) (hκ.ty 0 rfl) (fun _ h => by cases h) (N' := 120) (a0 := (120, .inl fun _ => 0)) (fun cA => rfl) (by decide) rfl (Nat.le_of_ble_eq_true rfl) (Nat.le_of_ble_eq_true rfl) (Nat.le_of_ble_eq_true rfl) (fun _ => 8) dX2_init_46 (fun q5 _ => ?_)
  refine j_world (w' := jset (pM κ G5 mZ [5, 4, 3, 2, 1]) (7 + 1) (q5, arM κ mZ 7)) rfl ?_
  refine jm_mk hκ C hnm 7 rfl (by decide) rfl rfl rfl q1644 dX2_init_48 hG5 (fun G6 hG6 => ?_)
  refine j_aload_n C dX2_init_51 rfl rfl ?_
  refine j_bipush C (v := 60) dX2_init_52 rfl ?_
  refine j_newarr C (ty := .int) rfl q182 (t0 := 0) (hκ.ty 0 rfl) (fun _ h => by cases h) (N' := 60) (a0 := (60, .inl fun _ => 0)) (fun cA => rfl) (by decide) rfl (Nat.le_of_ble_eq_true rfl) (Nat.le_of_ble_eq_true rfl) (Nat.le_of_ble_eq_true rfl) (fun _ => 11) dX2_init_54 (fun q6 _ => ?_)
  refine j_world (w' := jset (pM κ G6 mZ [7, 5, 4, 3, 2, 1]) (10 + 1) (q6, arM κ mZ 10)) rfl ?_
  refine jm_mk hκ C hnm 10 rfl (by decide) rfl rfl rfl q1647 dX2_init_56 hG6 (fun G7 hG7 => ?_)
  refine j_aload_n C dX2_init_59 rfl rfl ?_
  refine j_bipush C (v := 60) dX2_init_60 rfl ?_
  refine j_newarr C (ty := .int) rfl q182 (t0 := 0) (hκ.ty 0 rfl) (fun _ h => by cases h) (N' := 60) (a0 := (60, .inl fun _ => 0)) (fun cA => rfl) (by decide) rfl (Nat.le_of_ble_eq_true rfl) (Nat.le_of_ble_eq_true rfl) (Nat.le_of_ble_eq_true rfl) (fun _ => 12) dX2_init_62 (fun q7 _ => ?_)
  refine j_world (w' := jset (pM κ G7 mZ [10, 7, 5, 4, 3, 2, 1]) (11 + 1) (q7, arM κ mZ 11)) rfl ?_
  refine jm_mk hκ C hnm 11 rfl (by decide) rfl rfl rfl q1648 dX2_init_64 hG7 (fun G8 hG8 => ?_)
  refine j_aload_n C dX2_init_67 rfl rfl ?_
  refine j_bipush C (v := 60) dX2_init_68 rfl ?_
  refine j_newarr C (ty := .int) rfl q182 (t0 := 0) (hκ.ty 0 rfl) (fun _ h => by cases h) (N' := 60) (a0 := (60, .inl fun _ => 0)) (fun cA => rfl) (by decide) rfl (Nat.le_of_ble_eq_true rfl) (Nat.le_of_ble_eq_true rfl) (Nat.le_of_ble_eq_true rfl) (fun _ => 13) dX2_init_70 (fun q8 _ => ?_)
  refine j_world (w' := jset (pM κ G8 mZ [11, 10, 7, 5, 4, 3, 2, 1]) (12 + 1) (q8, arM κ mZ 12)) rfl ?_
  refine jm_mk hκ C hnm 12 rfl (by decide) rfl rfl rfl q1649 dX2_init_72 hG8 (fun G9 hG9 => ?_)
  refine j_aload_n C dX2_init_75 rfl rfl ?_
  refine j_sipush C (v := 200) dX2_init_76 rfl ?_
  refine j_newarr C (ty := .int) rfl q182 (t0 := 0) (hκ.ty 0 rfl) (fun _ h => by cases h) (N' := 200) (a0 := (200, .inl fun _ => 0)) (fun cA => rfl) (by decide) rfl (Nat.le_of_ble_eq_true rfl) (Nat.le_of_ble_eq_true rfl) (Nat.le_of_ble_eq_true rfl) (fun _ => 14) dX2_init_79 (fun q9 _ => ?_)
  refine j_world (w' := jset (pM κ G9 mZ [12, 11, 10, 7, 5, 4, 3, 2, 1]) (13 + 1) (q9, arM κ mZ 13)) rfl ?_
  refine jm_mk hκ C hnm 13 rfl (by decide) rfl rfl rfl q1650 dX2_init_81 hG9 (fun G10 hG10 => ?_)
  refine j_aload_n C dX2_init_84 rfl rfl ?_
  refine j_bipush C (v := 61) dX2_init_85 rfl ?_
  refine j_newarr C (ty := .int) rfl q182 (t0 := 0) (hκ.ty 0 rfl) (fun _ h => by cases h) (N' := 61) (a0 := (61, .inl fun _ => 0)) (fun cA => rfl) (by decide) rfl (Nat.le_of_ble_eq_true rfl) (Nat.le_of_ble_eq_true rfl) (Nat.le_of_ble_eq_true rfl) (fun _ => 19) dX2_init_87 (fun q10 _ => ?_)
  refine j_world (w' := jset (pM κ G10 mZ [13, 12, 11, 10, 7, 5, 4, 3, 2, 1]) (18 + 1) (q10, arM κ mZ 18)) rfl ?_
  refine jm_mk hκ C hnm 18 rfl (by decide) rfl rfl rfl q1655 dX2_init_89 hG10 (fun G11 hG11 => ?_)
  refine j_aload_n C dX2_init_92 rfl rfl ?_
  refine j_bipush C (v := 61) dX2_init_93 rfl ?_
  refine j_newarr C (ty := .int) rfl q182 (t0 := 0) (hκ.ty 0 rfl) (fun _ h => by cases h) (N' := 61) (a0 := (61, .inl fun _ => 0)) (fun cA => rfl) (by decide) rfl (Nat.le_of_ble_eq_true rfl) (Nat.le_of_ble_eq_true rfl) (Nat.le_of_ble_eq_true rfl) (fun _ => 20) dX2_init_95 (fun q11 _ => ?_)
  refine j_world (w' := jset (pM κ G11 mZ [18, 13, 12, 11, 10, 7, 5, 4, 3, 2, 1]) (19 + 1) (q11, arM κ mZ 19)) rfl ?_
  refine jm_mk hκ C hnm 19 rfl (by decide) rfl rfl rfl q1656 dX2_init_97 hG11 (fun G12 hG12 => ?_)
  refine j_aload_n C dX2_init_100 rfl rfl ?_
  refine j_bipush C (v := 61) dX2_init_101 rfl ?_
  refine j_newarr C (ty := .int) rfl q182 (t0 := 0) (hκ.ty 0 rfl) (fun _ h => by cases h) (N' := 61) (a0 := (61, .inl fun _ => 0)) (fun cA => rfl) (by decide) rfl (Nat.le_of_ble_eq_true rfl) (Nat.le_of_ble_eq_true rfl) (Nat.le_of_ble_eq_true rfl) (fun _ => 21) dX2_init_103 (fun q12 _ => ?_)
  refine j_world (w' := jset (pM κ G12 mZ [19, 18, 13, 12, 11, 10, 7, 5, 4, 3, 2, 1]) (20 + 1) (q12, arM κ mZ 20)) rfl ?_
  refine jm_mk hκ C hnm 20 rfl (by decide) rfl rfl rfl q1657 dX2_init_105 hG12 (fun G13 hG13 => ?_)
  refine j_aload_n C dX2_init_108 rfl rfl ?_
  refine j_sipush C (v := 200) dX2_init_109 rfl ?_
  refine j_newarr C (ty := .int) rfl q182 (t0 := 0) (hκ.ty 0 rfl) (fun _ h => by cases h) (N' := 200) (a0 := (200, .inl fun _ => 0)) (fun cA => rfl) (by decide) rfl (Nat.le_of_ble_eq_true rfl) (Nat.le_of_ble_eq_true rfl) (Nat.le_of_ble_eq_true rfl) (fun _ => 22) dX2_init_112 (fun q13 _ => ?_)
  refine j_world (w' := jset (pM κ G13 mZ [20, 19, 18, 13, 12, 11, 10, 7, 5, 4, 3, 2, 1]) (21 + 1) (q13, arM κ mZ 21)) rfl ?_
  refine jm_mk hκ C hnm 21 rfl (by decide) rfl rfl rfl q1658 dX2_init_114 hG13 (fun G14 hG14 => ?_)
  refine j_aload_n C dX2_init_117 rfl rfl ?_
  refine j_sipush C (v := 200) dX2_init_118 rfl ?_
  refine j_newarr C (ty := .int) rfl q182 (t0 := 0) (hκ.ty 0 rfl) (fun _ h => by cases h) (N' := 200) (a0 := (200, .inl fun _ => 0)) (fun cA => rfl) (by decide) rfl (Nat.le_of_ble_eq_true rfl) (Nat.le_of_ble_eq_true rfl) (Nat.le_of_ble_eq_true rfl) (fun _ => 23) dX2_init_121 (fun q14 _ => ?_)
  refine j_world (w' := jset (pM κ G14 mZ [21, 20, 19, 18, 13, 12, 11, 10, 7, 5, 4, 3, 2, 1]) (22 + 1) (q14, arM κ mZ 22)) rfl ?_
  refine jm_mk hκ C hnm 22 rfl (by decide) rfl rfl rfl q1659 dX2_init_123 hG14 (fun G15 hG15 => ?_)
  refine j_aload_n C dX2_init_126 rfl rfl ?_
  refine j_bipush C (v := 6) dX2_init_127 rfl ?_
  refine j_newarr C (ty := .int) rfl q182 (t0 := 0) (hκ.ty 0 rfl) (fun _ h => by cases h) (N' := 6) (a0 := (6, .inl fun _ => 0)) (fun cA => rfl) (by decide) rfl (Nat.le_of_ble_eq_true rfl) (Nat.le_of_ble_eq_true rfl) (Nat.le_of_ble_eq_true rfl) (fun _ => 24) dX2_init_129 (fun q15 _ => ?_)
  refine j_world (w' := jset (pM κ G15 mZ [22, 21, 20, 19, 18, 13, 12, 11, 10, 7, 5, 4, 3, 2, 1]) (23 + 1) (q15, arM κ mZ 23)) rfl ?_
  refine jm_mk hκ C hnm 23 rfl (by decide) rfl rfl rfl q1660 dX2_init_131 hG15 (fun G16 hG16 => ?_)
  refine j_aload_n C dX2_init_134 rfl rfl ?_
  refine j_bipush C (v := 9) dX2_init_135 rfl ?_
  refine j_newarr C (ty := .int) rfl q182 (t0 := 0) (hκ.ty 0 rfl) (fun _ h => by cases h) (N' := 9) (a0 := (9, .inl fun _ => 0)) (fun cA => rfl) (by decide) rfl (Nat.le_of_ble_eq_true rfl) (Nat.le_of_ble_eq_true rfl) (Nat.le_of_ble_eq_true rfl) (fun _ => 27) dX2_init_137 (fun q16 _ => ?_)
  refine j_world (w' := jset (pM κ G16 mZ [23, 22, 21, 20, 19, 18, 13, 12, 11, 10, 7, 5, 4, 3, 2, 1]) (26 + 1) (q16, arM κ mZ 26)) rfl ?_
  refine jm_mk hκ C hnm 26 rfl (by decide) rfl rfl rfl q1663 dX2_init_139 hG16 (fun G17 hG17 => ?_)
  refine j_aload_n C dX2_init_142 rfl rfl ?_
  refine j_iconst C (v := 4) dX2_init_143 rfl ?_
  refine j_newarr C (ty := .int) rfl q182 (t0 := 0) (hκ.ty 0 rfl) (fun _ h => by cases h) (N' := 4) (a0 := (4, .inl fun _ => 0)) (fun cA => rfl) (by decide) rfl (Nat.le_of_ble_eq_true rfl) (Nat.le_of_ble_eq_true rfl) (Nat.le_of_ble_eq_true rfl) (fun _ => 28) dX2_init_144 (fun q17 _ => ?_)
  refine j_world (w' := jset (pM κ G17 mZ [26, 23, 22, 21, 20, 19, 18, 13, 12, 11, 10, 7, 5, 4, 3, 2, 1]) (27 + 1) (q17, arM κ mZ 27)) rfl ?_
  refine jm_mk hκ C hnm 27 rfl (by decide) rfl rfl rfl q1664 dX2_init_146 hG17 (fun G18 hG18 => ?_)
  refine j_aload_n C dX2_init_149 rfl rfl ?_
  refine j_bipush C (v := 9) dX2_init_150 rfl ?_
  refine j_newarr C (ty := .int) rfl q182 (t0 := 0) (hκ.ty 0 rfl) (fun _ h => by cases h) (N' := 9) (a0 := (9, .inl fun _ => 0)) (fun cA => rfl) (by decide) rfl (Nat.le_of_ble_eq_true rfl) (Nat.le_of_ble_eq_true rfl) (Nat.le_of_ble_eq_true rfl) (fun _ => 33) dX2_init_152 (fun q18 _ => ?_)
  refine j_world (w' := jset (pM κ G18 mZ [27, 26, 23, 22, 21, 20, 19, 18, 13, 12, 11, 10, 7, 5, 4, 3, 2, 1]) (32 + 1) (q18, arM κ mZ 32)) rfl ?_
  refine jm_mk hκ C hnm 32 rfl (by decide) rfl rfl rfl q1669 dX2_init_154 hG18 (fun G19 hG19 => ?_)
  refine j_aload_n C dX2_init_157 rfl rfl ?_
  refine j_iconst C (v := 4) dX2_init_158 rfl ?_
  refine j_newarr C (ty := .int) rfl q182 (t0 := 0) (hκ.ty 0 rfl) (fun _ h => by cases h) (N' := 4) (a0 := (4, .inl fun _ => 0)) (fun cA => rfl) (by decide) rfl (Nat.le_of_ble_eq_true rfl) (Nat.le_of_ble_eq_true rfl) (Nat.le_of_ble_eq_true rfl) (fun _ => 34) dX2_init_159 (fun q19 _ => ?_)
  refine j_world (w' := jset (pM κ G19 mZ [32, 27, 26, 23, 22, 21, 20, 19, 18, 13, 12, 11, 10, 7, 5, 4, 3, 2, 1]) (33 + 1) (q19, arM κ mZ 33)) rfl ?_
  refine jm_mk hκ C hnm 33 rfl (by decide) rfl rfl rfl q1670 dX2_init_161 hG19 (fun G20 hG20 => ?_)
  refine j_aload_n C dX2_init_164 rfl rfl ?_
  refine j_sipush C (v := 160) dX2_init_165 rfl ?_
  refine j_newarr C (ty := .int) rfl q182 (t0 := 0) (hκ.ty 0 rfl) (fun _ h => by cases h) (N' := 160) (a0 := (160, .inl fun _ => 0)) (fun cA => rfl) (by decide) rfl (Nat.le_of_ble_eq_true rfl) (Nat.le_of_ble_eq_true rfl) (Nat.le_of_ble_eq_true rfl) (fun _ => 37) dX2_init_168 (fun q20 _ => ?_)
  refine j_world (w' := jset (pM κ G20 mZ [33, 32, 27, 26, 23, 22, 21, 20, 19, 18, 13, 12, 11, 10, 7, 5, 4, 3, 2, 1]) (36 + 1) (q20, arM κ mZ 36)) rfl ?_
  refine jm_mk hκ C hnm 36 rfl (by decide) rfl rfl rfl q1673 dX2_init_170 hG20 (fun G21 hG21 => ?_)
  refine j_aload_n C dX2_init_173 rfl rfl ?_
  refine j_bipush C (v := 50) dX2_init_174 rfl ?_
  refine j_newarr C (ty := .int) rfl q182 (t0 := 0) (hκ.ty 0 rfl) (fun _ h => by cases h) (N' := 50) (a0 := (50, .inl fun _ => 0)) (fun cA => rfl) (by decide) rfl (Nat.le_of_ble_eq_true rfl) (Nat.le_of_ble_eq_true rfl) (Nat.le_of_ble_eq_true rfl) (fun _ => 39) dX2_init_176 (fun q21 _ => ?_)
  refine j_world (w' := jset (pM κ G21 mZ [36, 33, 32, 27, 26, 23, 22, 21, 20, 19, 18, 13, 12, 11, 10, 7, 5, 4, 3, 2, 1]) (38 + 1) (q21, arM κ mZ 38)) rfl ?_
  refine jm_mk hκ C hnm 38 rfl (by decide) rfl rfl rfl q1675 dX2_init_178 hG21 (fun G22 hG22 => ?_)
  refine j_aload_n C dX2_init_181 rfl rfl ?_
  refine j_bipush C (v := 24) dX2_init_182 rfl ?_
  refine j_newarr C (ty := .int) rfl q182 (t0 := 0) (hκ.ty 0 rfl) (fun _ h => by cases h) (N' := 24) (a0 := (24, .inl fun _ => 0)) (fun cA => rfl) (by decide) rfl (Nat.le_of_ble_eq_true rfl) (Nat.le_of_ble_eq_true rfl) (Nat.le_of_ble_eq_true rfl) (fun _ => 41) dX2_init_184 (fun q22 _ => ?_)
  refine j_world (w' := jset (pM κ G22 mZ [38, 36, 33, 32, 27, 26, 23, 22, 21, 20, 19, 18, 13, 12, 11, 10, 7, 5, 4, 3, 2, 1]) (40 + 1) (q22, arM κ mZ 40)) rfl ?_
  refine jm_mk hκ C hnm 40 rfl (by decide) rfl rfl rfl q1677 dX2_init_186 hG22 (fun G23 hG23 => ?_)
  refine j_aload_n C dX2_init_189 rfl rfl ?_
  refine j_bipush C (v := 6) dX2_init_190 rfl ?_
  refine j_newarr C (ty := .int) rfl q182 (t0 := 0) (hκ.ty 0 rfl) (fun _ h => by cases h) (N' := 6) (a0 := (6, .inl fun _ => 0)) (fun cA => rfl) (by decide) rfl (Nat.le_of_ble_eq_true rfl) (Nat.le_of_ble_eq_true rfl) (Nat.le_of_ble_eq_true rfl) (fun _ => 42) dX2_init_192 (fun q23 _ => ?_)
  refine j_world (w' := jset (pM κ G23 mZ [40, 38, 36, 33, 32, 27, 26, 23, 22, 21, 20, 19, 18, 13, 12, 11, 10, 7, 5, 4, 3, 2, 1]) (41 + 1) (q23, arM κ mZ 41)) rfl ?_
  refine jm_mk hκ C hnm 41 rfl (by decide) rfl rfl rfl q1678 dX2_init_194 hG23 (fun G24 hG24 => ?_)
  refine j_aload_n C dX2_init_197 rfl rfl ?_
  refine j_bipush C (v := 6) dX2_init_198 rfl ?_
  refine j_newarr C (ty := .int) rfl q182 (t0 := 0) (hκ.ty 0 rfl) (fun _ h => by cases h) (N' := 6) (a0 := (6, .inl fun _ => 0)) (fun cA => rfl) (by decide) rfl (Nat.le_of_ble_eq_true rfl) (Nat.le_of_ble_eq_true rfl) (Nat.le_of_ble_eq_true rfl) (fun _ => 43) dX2_init_200 (fun q24 _ => ?_)
  refine j_world (w' := jset (pM κ G24 mZ [41, 40, 38, 36, 33, 32, 27, 26, 23, 22, 21, 20, 19, 18, 13, 12, 11, 10, 7, 5, 4, 3, 2, 1]) (42 + 1) (q24, arM κ mZ 42)) rfl ?_
  refine jm_mk hκ C hnm 42 rfl (by decide) rfl rfl rfl q1679 dX2_init_202 hG24 (fun G25 hG25 => ?_)
  refine j_aload_n C dX2_init_205 rfl rfl ?_
  refine j_sipush C (v := 360) dX2_init_206 rfl ?_
  refine j_newarr C (ty := .long) rfl q1485 (t0 := 1) (hκ.ty 1 rfl) (fun _ h => by cases h) (N' := 360) (a0 := (360, .inr (.inl fun _ => 0))) (fun cA => rfl) (by decide) rfl (Nat.le_of_ble_eq_true rfl) (Nat.le_of_ble_eq_true rfl) (Nat.le_of_ble_eq_true rfl) (fun _ => 44) dX2_init_209 (fun q25 _ => ?_)
  refine j_world (w' := jset (pM κ G25 mZ [42, 41, 40, 38, 36, 33, 32, 27, 26, 23, 22, 21, 20, 19, 18, 13, 12, 11, 10, 7, 5, 4, 3, 2, 1]) (43 + 1) (q25, arM κ mZ 43)) rfl ?_
  refine jm_mk hκ C hnm 43 rfl (by decide) rfl rfl rfl q1680 dX2_init_211 hG25 (fun G26 hG26 => ?_)
  refine j_aload_n C dX2_init_214 rfl rfl ?_
  refine j_bipush C (v := 20) dX2_init_215 rfl ?_
  refine j_newarr C (ty := .int) rfl q182 (t0 := 0) (hκ.ty 0 rfl) (fun _ h => by cases h) (N' := 20) (a0 := (20, .inl fun _ => 0)) (fun cA => rfl) (by decide) rfl (Nat.le_of_ble_eq_true rfl) (Nat.le_of_ble_eq_true rfl) (Nat.le_of_ble_eq_true rfl) (fun _ => 46) dX2_init_217 (fun q26 _ => ?_)
  refine j_world (w' := jset (pM κ G26 mZ [43, 42, 41, 40, 38, 36, 33, 32, 27, 26, 23, 22, 21, 20, 19, 18, 13, 12, 11, 10, 7, 5, 4, 3, 2, 1]) (45 + 1) (q26, arM κ mZ 45)) rfl ?_
  refine jm_mk hκ C hnm 45 rfl (by decide) rfl rfl rfl q1682 dX2_init_219 hG26 (fun G27 hG27 => ?_)
  refine j_aload_n C dX2_init_222 rfl rfl ?_
  refine j_sipush C (v := 4000) dX2_init_223 rfl ?_
  refine j_newarr C (ty := .int) rfl q182 (t0 := 0) (hκ.ty 0 rfl) (fun _ h => by cases h) (N' := 4000) (a0 := (4000, .inl fun _ => 0)) (fun cA => rfl) (by decide) rfl (Nat.le_of_ble_eq_true rfl) (Nat.le_of_ble_eq_true rfl) (Nat.le_of_ble_eq_true rfl) (fun _ => 48) dX2_init_226 (fun q27 _ => ?_)
  refine j_world (w' := jset (pM κ G27 mZ [45, 43, 42, 41, 40, 38, 36, 33, 32, 27, 26, 23, 22, 21, 20, 19, 18, 13, 12, 11, 10, 7, 5, 4, 3, 2, 1]) (47 + 1) (q27, arM κ mZ 47)) rfl ?_
  refine jm_mk hκ C hnm 47 rfl (by decide) rfl rfl rfl q1684 dX2_init_228 hG27 (fun G28 hG28 => ?_)
  refine j_aload_n C dX2_init_231 rfl rfl ?_
  refine j_sipush C (v := 4000) dX2_init_232 rfl ?_
  refine j_newarr C (ty := .int) rfl q182 (t0 := 0) (hκ.ty 0 rfl) (fun _ h => by cases h) (N' := 4000) (a0 := (4000, .inl fun _ => 0)) (fun cA => rfl) (by decide) rfl (Nat.le_of_ble_eq_true rfl) (Nat.le_of_ble_eq_true rfl) (Nat.le_of_ble_eq_true rfl) (fun _ => 49) dX2_init_235 (fun q28 _ => ?_)
  refine j_world (w' := jset (pM κ G28 mZ [47, 45, 43, 42, 41, 40, 38, 36, 33, 32, 27, 26, 23, 22, 21, 20, 19, 18, 13, 12, 11, 10, 7, 5, 4, 3, 2, 1]) (48 + 1) (q28, arM κ mZ 48)) rfl ?_
  refine jm_mk hκ C hnm 48 rfl (by decide) rfl rfl rfl q1685 dX2_init_237 hG28 (fun G29 hG29 => ?_)
  refine j_aload_n C dX2_init_240 rfl rfl ?_
  refine j_sipush C (v := 18000) dX2_init_241 rfl ?_
  refine j_newarr C (ty := .int) rfl q182 (t0 := 0) (hκ.ty 0 rfl) (fun _ h => by cases h) (N' := 18000) (a0 := (18000, .inl fun _ => 0)) (fun cA => rfl) (by decide) rfl (Nat.le_of_ble_eq_true rfl) (Nat.le_of_ble_eq_true rfl) (Nat.le_of_ble_eq_true rfl) (fun _ => 50) dX2_init_244 (fun q29 _ => ?_)
  refine j_world (w' := jset (pM κ G29 mZ [48, 47, 45, 43, 42, 41, 40, 38, 36, 33, 32, 27, 26, 23, 22, 21, 20, 19, 18, 13, 12, 11, 10, 7, 5, 4, 3, 2, 1]) (49 + 1) (q29, arM κ mZ 49)) rfl ?_
  refine jm_mk hκ C hnm 49 rfl (by decide) rfl rfl rfl q1686 dX2_init_246 hG29 (fun G30 hG30 => ?_)
  refine j_aload_n C dX2_init_249 rfl rfl ?_
  refine j_sipush C (v := 4000) dX2_init_250 rfl ?_
  refine j_newarr C (ty := .boolean) rfl q337 (t0 := 2) (hκ.ty 2 rfl) (fun _ h => by cases h) (N' := 4000) (a0 := (4000, .inl fun _ => 0)) (fun cA => rfl) (by decide) rfl (Nat.le_of_ble_eq_true rfl) (Nat.le_of_ble_eq_true rfl) (Nat.le_of_ble_eq_true rfl) (fun _ => 51) dX2_init_253 (fun q30 _ => ?_)
  refine j_world (w' := jset (pM κ G30 mZ [49, 48, 47, 45, 43, 42, 41, 40, 38, 36, 33, 32, 27, 26, 23, 22, 21, 20, 19, 18, 13, 12, 11, 10, 7, 5, 4, 3, 2, 1]) (50 + 1) (q30, arM κ mZ 50)) rfl ?_
  refine jm_mk hκ C hnm 50 rfl (by decide) rfl rfl rfl q1687 dX2_init_255 hG30 (fun G31 hG31 => ?_)
  refine j_aload_n C dX2_init_258 rfl rfl ?_
  refine j_sipush C (v := 1000) dX2_init_259 rfl ?_
  refine j_newarr C (ty := .int) rfl q182 (t0 := 0) (hκ.ty 0 rfl) (fun _ h => by cases h) (N' := 1000) (a0 := (1000, .inl fun _ => 0)) (fun cA => rfl) (by decide) rfl (Nat.le_of_ble_eq_true rfl) (Nat.le_of_ble_eq_true rfl) (Nat.le_of_ble_eq_true rfl) (fun _ => 52) dX2_init_262 (fun q31 _ => ?_)
  refine j_world (w' := jset (pM κ G31 mZ [50, 49, 48, 47, 45, 43, 42, 41, 40, 38, 36, 33, 32, 27, 26, 23, 22, 21, 20, 19, 18, 13, 12, 11, 10, 7, 5, 4, 3, 2, 1]) (51 + 1) (q31, arM κ mZ 51)) rfl ?_
  refine jm_mk hκ C hnm 51 rfl (by decide) rfl rfl rfl q1688 dX2_init_264 hG31 (fun G32 hG32 => ?_)
  refine j_aload_n C dX2_init_267 rfl rfl ?_
  refine j_bipush C (v := 9) dX2_init_268 rfl ?_
  refine j_newarr C (ty := .int) rfl q182 (t0 := 0) (hκ.ty 0 rfl) (fun _ h => by cases h) (N' := 9) (a0 := (9, .inl fun _ => 0)) (fun cA => rfl) (by decide) rfl (Nat.le_of_ble_eq_true rfl) (Nat.le_of_ble_eq_true rfl) (Nat.le_of_ble_eq_true rfl) (fun _ => 53) dX2_init_270 (fun q32 _ => ?_)
  refine j_world (w' := jset (pM κ G32 mZ [51, 50, 49, 48, 47, 45, 43, 42, 41, 40, 38, 36, 33, 32, 27, 26, 23, 22, 21, 20, 19, 18, 13, 12, 11, 10, 7, 5, 4, 3, 2, 1]) (52 + 1) (q32, arM κ mZ 52)) rfl ?_
  refine jm_mk hκ C hnm 52 rfl (by decide) rfl rfl rfl q1689 dX2_init_272 hG32 (fun G33 hG33 => ?_)
  refine j_aload_n C dX2_init_275 rfl rfl ?_
  refine j_bipush C (v := 9) dX2_init_276 rfl ?_
  refine j_newarr C (ty := .int) rfl q182 (t0 := 0) (hκ.ty 0 rfl) (fun _ h => by cases h) (N' := 9) (a0 := (9, .inl fun _ => 0)) (fun cA => rfl) (by decide) rfl (Nat.le_of_ble_eq_true rfl) (Nat.le_of_ble_eq_true rfl) (Nat.le_of_ble_eq_true rfl) (fun _ => 54) dX2_init_278 (fun q33 _ => ?_)
  refine j_world (w' := jset (pM κ G33 mZ [52, 51, 50, 49, 48, 47, 45, 43, 42, 41, 40, 38, 36, 33, 32, 27, 26, 23, 22, 21, 20, 19, 18, 13, 12, 11, 10, 7, 5, 4, 3, 2, 1]) (53 + 1) (q33, arM κ mZ 53)) rfl ?_
  refine jm_mk hκ C hnm 53 rfl (by decide) rfl rfl rfl q1690 dX2_init_280 hG33 (fun G34 hG34 => ?_)
  rw [pM_wM κ G34 mZ (by decide) (by decide)]
  clear hG0 hG1 hG2 hG3 hG4 hG5 hG6 hG7 hG8 hG9 hG10 hG11 hG12 hG13 hG14 hG15 hG16 hG17 hG18 hG19 hG20 hG21 hG22 hG23 hG24 hG25 hG26 hG27 hG28 hG29 hG30 hG31 hG32 hG33
  subst hG34
  refine j_aload_n C dX2_init_283 rfl rfl ?_
  refine jm_geta hκ C 5 (by decide) rfl q1642 dX2_init_284 ?_
  refine j_iconst C (v := 2) dX2_init_287 rfl ?_
  refine j_iconst C (v := 1) dX2_init_288 rfl ?_
  refine jm_iastK hκ C 5 2 rfl rfl (vp_k rfl) dX2_init_289 ?_
  refine j_aload_n C dX2_init_290 rfl rfl ?_
  refine jm_geta hκ C 5 (by decide) rfl q1642 dX2_init_291 ?_
  refine j_iconst C (v := 3) dX2_init_294 rfl ?_
  refine j_iconst C (v := 1) dX2_init_295 rfl ?_
  refine jm_iastK hκ C 5 3 rfl rfl (vp_k rfl) dX2_init_296 ?_
  refine j_aload_n C dX2_init_297 rfl rfl ?_
  refine j_iconst C (v := (-1)) dX2_init_298 rfl ?_
  refine jm_puti hκ C 24 (by decide) rfl rfl rfl q1661 dX2_init_299 ?_
  refine j_iconst C (v := 0) dX2_init_302 rfl ?_
  refine j_istore_n C dX2_init_303 rfl (by decide) rfl ?_
  refine j_iload_n C dX2_init_304 rfl rfl ?_
  refine j_bipush C (v := 6) dX2_init_305 rfl ?_
  refine j_icmp_ge C dX2_init_307 (tgt := 323) (by decide) (fun c => absurd c (by decide)) (fun _ => ?_)
  refine j_aload_n C dX2_init_310 rfl rfl ?_
  refine jm_geta hκ C 41 (by decide) rfl q1678 dX2_init_311 ?_
  refine j_iload_n C dX2_init_314 rfl rfl ?_
  refine j_iconst C (v := -1) dX2_init_315 rfl ?_
  refine jm_iastK hκ C 41 0 rfl rfl (vp_k rfl) dX2_init_316 ?_
  refine j_iinc C (v := 1) dX2_init_317 rfl rfl (by decide) rfl ?_
  refine j_goto C dX2_init_320 (tgt := 304) (by decide) ?_
  refine j_iload_n C dX2_init_304 rfl rfl ?_
  refine j_bipush C (v := 6) dX2_init_305 rfl ?_
  refine j_icmp_ge C dX2_init_307 (tgt := 323) (by decide) (fun c => absurd c (by decide)) (fun _ => ?_)
  refine j_aload_n C dX2_init_310 rfl rfl ?_
  refine jm_geta hκ C 41 (by decide) rfl q1678 dX2_init_311 ?_
  refine j_iload_n C dX2_init_314 rfl rfl ?_
  refine j_iconst C (v := -1) dX2_init_315 rfl ?_
  refine jm_iastK hκ C 41 1 rfl rfl (vp_k rfl) dX2_init_316 ?_
  refine j_iinc C (v := 2) dX2_init_317 rfl rfl (by decide) rfl ?_
  refine j_goto C dX2_init_320 (tgt := 304) (by decide) ?_
  refine j_iload_n C dX2_init_304 rfl rfl ?_
  refine j_bipush C (v := 6) dX2_init_305 rfl ?_
  refine j_icmp_ge C dX2_init_307 (tgt := 323) (by decide) (fun c => absurd c (by decide)) (fun _ => ?_)
  refine j_aload_n C dX2_init_310 rfl rfl ?_
  refine jm_geta hκ C 41 (by decide) rfl q1678 dX2_init_311 ?_
  refine j_iload_n C dX2_init_314 rfl rfl ?_
  refine j_iconst C (v := -1) dX2_init_315 rfl ?_
  refine jm_iastK hκ C 41 2 rfl rfl (vp_k rfl) dX2_init_316 ?_
  refine j_iinc C (v := 3) dX2_init_317 rfl rfl (by decide) rfl ?_
  refine j_goto C dX2_init_320 (tgt := 304) (by decide) ?_
  refine j_iload_n C dX2_init_304 rfl rfl ?_
  refine j_bipush C (v := 6) dX2_init_305 rfl ?_
  refine j_icmp_ge C dX2_init_307 (tgt := 323) (by decide) (fun c => absurd c (by decide)) (fun _ => ?_)
  refine j_aload_n C dX2_init_310 rfl rfl ?_
  refine jm_geta hκ C 41 (by decide) rfl q1678 dX2_init_311 ?_
  refine j_iload_n C dX2_init_314 rfl rfl ?_
  refine j_iconst C (v := -1) dX2_init_315 rfl ?_
  refine jm_iastK hκ C 41 3 rfl rfl (vp_k rfl) dX2_init_316 ?_
  refine j_iinc C (v := 4) dX2_init_317 rfl rfl (by decide) rfl ?_
  refine j_goto C dX2_init_320 (tgt := 304) (by decide) ?_
  refine j_iload_n C dX2_init_304 rfl rfl ?_
  refine j_bipush C (v := 6) dX2_init_305 rfl ?_
  refine j_icmp_ge C dX2_init_307 (tgt := 323) (by decide) (fun c => absurd c (by decide)) (fun _ => ?_)
  refine j_aload_n C dX2_init_310 rfl rfl ?_
  refine jm_geta hκ C 41 (by decide) rfl q1678 dX2_init_311 ?_
  refine j_iload_n C dX2_init_314 rfl rfl ?_
  refine j_iconst C (v := -1) dX2_init_315 rfl ?_
  refine jm_iastK hκ C 41 4 rfl rfl (vp_k rfl) dX2_init_316 ?_
  refine j_iinc C (v := 5) dX2_init_317 rfl rfl (by decide) rfl ?_
  refine j_goto C dX2_init_320 (tgt := 304) (by decide) ?_
  refine j_iload_n C dX2_init_304 rfl rfl ?_
  refine j_bipush C (v := 6) dX2_init_305 rfl ?_
  refine j_icmp_ge C dX2_init_307 (tgt := 323) (by decide) (fun c => absurd c (by decide)) (fun _ => ?_)
  refine j_aload_n C dX2_init_310 rfl rfl ?_
  refine jm_geta hκ C 41 (by decide) rfl q1678 dX2_init_311 ?_
  refine j_iload_n C dX2_init_314 rfl rfl ?_
  refine j_iconst C (v := -1) dX2_init_315 rfl ?_
  refine jm_iastK hκ C 41 5 rfl rfl (vp_k rfl) dX2_init_316 ?_
  refine j_iinc C (v := 6) dX2_init_317 rfl rfl (by decide) rfl ?_
  refine j_goto C dX2_init_320 (tgt := 304) (by decide) ?_
  refine j_iload_n C dX2_init_304 rfl rfl ?_
  refine j_bipush C (v := 6) dX2_init_305 rfl ?_
  refine j_icmp_ge C dX2_init_307 (tgt := 323) (by decide) (fun _ => ?_) (fun c => absurd (by decide) c)
  exact j_vret C dX2_init_323 (Nat.le_of_ble_eq_true rfl) (Nat.le_of_ble_eq_true rfl) ⟨rfl, _, rfl, rfl⟩
theorem jset3 (w : jW) (r1 r2 : Nat) (x0 x1 x2 : Nat × va_E) (h : r1 ≠ r2) : jset (jset (jset w r2 x0) r1 x1) r2 x2 = jset (jset w r1 x1) r2 x2 := by
  funext r
  unfold jset
  by_cases e : r = r2
  · rw [if_pos e, if_pos e]
  · simp [e]
theorem mt_iFacts {κ : jK} (hκ : jX κ) (w : jW) (r q : Nat) (hw : w r = some (q, .inr (ciX1, [.null]))) (hr : ¬ r = 50) : jM κ yX1_init (ws_ yX1_init cX1_init 1 none) 2 1 128 [.ref q] w (fun u w' => u = none ∧ ∃ b : Nat, w' = jset (jset w 50 (b, .inl (jt κ 0, 128, .inl fun _ => 0))) r (q, .inr (ciX1, [.ref b]))) := by
  refine jM.of (by decide) rfl (Nat.le_of_ble_eq_true rfl) fun Γ C hnm => ?_
  show J κ Γ (2, 1, 128, _) 1 w 0 0 0 [some (.ref q)] []
  refine j_aload_n C dX1_init_0 rfl rfl ?_
  refine j_objInit C q174 q163 q164 dX1_init_1 (Nat.le_of_ble_eq_true rfl) (by decide) ?_
  refine j_aload_n C dX1_init_4 rfl rfl ?_
  refine j_sipush C (v := 128) dX1_init_5 rfl ?_
  refine j_newarr C (ty := .int) rfl q182 (t0 := 0) (hκ.ty 0 rfl) (fun _ h => by cases h) (N' := 128) (a0 := (128, .inl fun _ => 0)) (fun cA => rfl) (by decide) rfl (Nat.le_of_ble_eq_true rfl) (Nat.le_of_ble_eq_true rfl) (Nat.le_of_ble_eq_true rfl) (fun _ => 50) dX1_init_8 (fun b hb => ?_)
  have he : (jset w 50 (b, .inl (jt κ 0, 128, .inl fun _ => 0))) r = some (q, .inr (ciX1, [.null])) := by
    unfold jset
    rw [if_neg hr, hw]
  refine j_putF C hnm in_X1 tyX1 tyX1_ok nmX1 r he (hκ.cl rfl) 0 (by decide) q175 rfl rfl rfl rfl (v := .ref b) rfl rfl (by decide) dX1_init_10 ?_
  exact j_vret C dX1_init_13 (Nat.le_of_ble_eq_true rfl) (Nat.le_of_ble_eq_true rfl) ⟨rfl, b, rfl⟩
def xZ : XS := (fun _ => 0, fun _ _ => 0, fun _ _ => none, fun _ => none)
/-- the component as it is made -/
def xInit : XS := (xI (xI (xI xZ 4 1) 5 1) 29 (-1))
/-- the array classes over its classes -/
def jAO (κ : jK) : Prop := ∀ s : State, κ.2.2.2.2.2 s → ∀ E ∈ ["NineKeysRound$Post", "NineKeysRound$Change", "NineKeysRound$Key", "NineKeysRound$Held"], va_AO E s
theorem mt_x_init {κ : jK} (hκ : jX κ) (hAO : jAO κ) (a : Nat) : jM κ yX0_init (ws_ yX0_init cX0_init 1 none) 3 18 14485 [.ref a] (pX κ (fun _ => a) xZ []) (fun u w' => u = none ∧ ∃ G : Nat → Nat, G 0 = a ∧ w' = wX κ G xInit) := by
  refine jM.of (by decide) rfl (Nat.le_of_ble_eq_true rfl) fun Γ C hnm => ?_
  show J κ Γ (3, 18, 14485, (fun u w' => u = none ∧ ∃ G : Nat → Nat, G 0 = a ∧ w' = wX κ G xInit)) 1 (pX κ (fun _ => a) xZ []) 0 0 0 [some (.ref a)] []
  have hG0 : (fun _ : Nat => a) 0 = a := rfl
  generalize (fun _ : Nat => a) = G0 at hG0 ⊢
  refine j_aload_n C dX0_init_0 rfl rfl ?_
  refine j_objInit C q162 q163 q164 dX0_init_1 (Nat.le_of_ble_eq_true rfl) (by decide) ?_
  refine j_aload_n C dX0_init_4 rfl rfl ?_
  refine j_bipush C (v := 9) dX0_init_5 rfl ?_
  refine j_newq C q165 (fun s hs => hAO s hs _ (by decide)) (t0 := 5) (hκ.ty 5 rfl) (N' := 9) (by decide) rfl (Nat.le_of_ble_eq_true rfl) (Nat.le_of_ble_eq_true rfl) (Nat.le_of_ble_eq_true rfl) (fun _ => 1) dX0_init_7 (fun q0 _ => ?_)
  refine j_world (w' := jset (pX κ G0 xZ []) (0 + 1) (q0, arX κ G0 xZ 0)) rfl ?_
  refine jx_mk hκ C hnm 0 rfl rfl rfl (by decide) rfl rfl rfl q187 dX0_init_10 hG0 (fun G1 hG1 => ?_)
  refine j_aload_n C dX0_init_13 rfl rfl ?_
  refine j_iconst C (v := 1) dX0_init_14 rfl ?_
  refine jx_mkI hκ C 4 rfl (by decide) rfl rfl q191 rfl dX0_init_15 hG1 ?_
  refine j_aload_n C dX0_init_18 rfl rfl ?_
  refine j_iconst C (v := 1) dX0_init_19 rfl ?_
  refine jx_mkI hκ C 5 rfl (by decide) rfl rfl q192 rfl dX0_init_20 hG1 ?_
  refine j_aload_n C dX0_init_23 rfl rfl ?_
  refine j_bipush C (v := 40) dX0_init_24 rfl ?_
  refine j_newq C q167 (fun s hs => hAO s hs _ (by decide)) (t0 := 6) (hκ.ty 6 rfl) (N' := 40) (by decide) rfl (Nat.le_of_ble_eq_true rfl) (Nat.le_of_ble_eq_true rfl) (Nat.le_of_ble_eq_true rfl) (fun _ => 7) dX0_init_26 (fun q1 _ => ?_)
  refine j_world (w' := jset (pX κ G1 (xI (xI xZ 4 1) 5 1) [0]) (6 + 1) (q1, arX κ G1 (xI (xI xZ 4 1) 5 1) 6)) rfl ?_
  refine jx_mk hκ C hnm 6 rfl rfl rfl (by decide) rfl rfl rfl q193 dX0_init_29 hG1 (fun G2 hG2 => ?_)
  refine j_aload_n C dX0_init_32 rfl rfl ?_
  refine j_bipush C (v := 120) dX0_init_33 rfl ?_
  refine j_newarr C (ty := .byte) rfl q181 (t0 := 3) (hκ.ty 3 rfl) (fun _ h => by cases h) (N' := 120) (a0 := (120, .inl fun _ => 0)) (fun cA => rfl) (by decide) rfl (Nat.le_of_ble_eq_true rfl) (Nat.le_of_ble_eq_true rfl) (Nat.le_of_ble_eq_true rfl) (fun _ => 10) dX0_init_35 (fun q2 _ => ?_)
  refine j_world (w' := jset (pX κ G2 (xI (xI xZ 4 1) 5 1) [6, 0]) (9 + 1) (q2, arX κ G2 (xI (xI xZ 4 1) 5 1) 9)) rfl ?_
  refine jx_mk hκ C hnm 9 rfl rfl rfl (by decide) rfl rfl rfl q196 dX0_init_37 hG2 (fun G3 hG3 => ?_)
  refine j_aload_n C dX0_init_40 rfl rfl ?_
  refine j_new C in_X1 tyX1 tyX1_ok q169 q170 q114 (hκ.cl rfl) (ci := ciX1) (fs := [.null]) (by intro j hj; rcases j with _ | j <;> first | rfl | omega) (Nat.le_of_ble_eq_true rfl) (Nat.le_of_ble_eq_true rfl) (fun _ => 13) dX0_init_41 (fun qf _ => ?_)
  refine j_dup C dX0_init_44 rfl ?_
  refine j_callIN hκ C (As := []) (mt_iFacts hκ _ 13 qf (jset_at _ _ _) (by decide)) q173 q114 q171 q172 rfl (N := 0) ⟨by decide, by decide, by decide +kernel⟩ rfl dX0_init_45 ⟨Nat.le_of_ble_eq_true rfl, by decide, Nat.le_of_ble_eq_true rfl, Nat.le_of_ble_eq_true rfl, Nat.le_of_ble_eq_true rfl⟩ rfl (fun u w1 hp => ?_)
  obtain ⟨rfl, bf, rfl⟩ := hp
  refine j_world (w' := jset (jset (pX κ G3 (xI (xI xZ 4 1) 5 1) [9, 6, 0]) 50 (bf, .inl (jt κ 0, 128, .inl fun _ => 0))) 13 (qf, .inr (ciX1, [.ref bf]))) (jset3 _ _ _ _ _ _ (by decide)) ?_
  subst hG3
  refine j_putF C hnm in_X0 tyX0 tyX0_ok nmX0 0 (a := G3 0) (fs := fsXp G3 (xI (xI xZ 4 1) 5 1) [9, 6, 0]) rfl (hκ.cl rfl) 12 (by decide) q201 rfl rfl rfl rfl (v := .ref qf) rfl rfl (by simp [fsXp]) dX0_init_48 ?_
  rw [pX_facts κ G3 (xI (xI xZ 4 1) 5 1) rfl]
  have hG4 : (gset (gset G3 50 bf) 13 qf) 0 = G3 0 := rfl
  generalize gset (gset G3 50 bf) 13 qf = G4 at hG4 ⊢
  generalize G3 0 = a at hG4 ⊢
  refine j_aload_n C dX0_init_51 rfl rfl ?_
  refine j_bipush C (v := 20) dX0_init_52 rfl ?_
  refine j_newarr C (ty := .int) rfl q182 (t0 := 0) (hκ.ty 0 rfl) (fun _ h => by cases h) (N' := 20) (a0 := (20, .inl fun _ => 0)) (fun cA => rfl) (by decide) rfl (Nat.le_of_ble_eq_true rfl) (Nat.le_of_ble_eq_true rfl) (Nat.le_of_ble_eq_true rfl) (fun _ => 14) dX0_init_54 (fun q4 _ => ?_)
  refine j_world (w' := jset (pX κ G4 (xI (xI xZ 4 1) 5 1) [12, 49, 9, 6, 0]) (13 + 1) (q4, arX κ G4 (xI (xI xZ 4 1) 5 1) 13)) rfl ?_
  refine jx_mk hκ C hnm 13 rfl rfl rfl (by decide) rfl rfl rfl q202 dX0_init_56 hG4 (fun G5 hG5 => ?_)
  refine j_aload_n C dX0_init_59 rfl rfl ?_
  refine j_sipush C (v := 4000) dX0_init_60 rfl ?_
  refine j_newarr C (ty := .int) rfl q182 (t0 := 0) (hκ.ty 0 rfl) (fun _ h => by cases h) (N' := 4000) (a0 := (4000, .inl fun _ => 0)) (fun cA => rfl) (by decide) rfl (Nat.le_of_ble_eq_true rfl) (Nat.le_of_ble_eq_true rfl) (Nat.le_of_ble_eq_true rfl) (fun _ => 15) dX0_init_63 (fun q5 _ => ?_)
  refine j_world (w' := jset (pX κ G5 (xI (xI xZ 4 1) 5 1) [13, 12, 49, 9, 6, 0]) (14 + 1) (q5, arX κ G5 (xI (xI xZ 4 1) 5 1) 14)) rfl ?_
  refine jx_mk hκ C hnm 14 rfl rfl rfl (by decide) rfl rfl rfl q203 dX0_init_65 hG5 (fun G6 hG6 => ?_)
  refine j_aload_n C dX0_init_68 rfl rfl ?_
  refine j_sipush C (v := 4000) dX0_init_69 rfl ?_
  refine j_newarr C (ty := .int) rfl q182 (t0 := 0) (hκ.ty 0 rfl) (fun _ h => by cases h) (N' := 4000) (a0 := (4000, .inl fun _ => 0)) (fun cA => rfl) (by decide) rfl (Nat.le_of_ble_eq_true rfl) (Nat.le_of_ble_eq_true rfl) (Nat.le_of_ble_eq_true rfl) (fun _ => 16) dX0_init_72 (fun q6 _ => ?_)
  refine j_world (w' := jset (pX κ G6 (xI (xI xZ 4 1) 5 1) [14, 13, 12, 49, 9, 6, 0]) (15 + 1) (q6, arX κ G6 (xI (xI xZ 4 1) 5 1) 15)) rfl ?_
  refine jx_mk hκ C hnm 15 rfl rfl rfl (by decide) rfl rfl rfl q204 dX0_init_74 hG6 (fun G7 hG7 => ?_)
  refine j_aload_n C dX0_init_77 rfl rfl ?_
  refine j_bipush C (v := 9) dX0_init_78 rfl ?_
  refine j_newarr C (ty := .int) rfl q182 (t0 := 0) (hκ.ty 0 rfl) (fun _ h => by cases h) (N' := 9) (a0 := (9, .inl fun _ => 0)) (fun cA => rfl) (by decide) rfl (Nat.le_of_ble_eq_true rfl) (Nat.le_of_ble_eq_true rfl) (Nat.le_of_ble_eq_true rfl) (fun _ => 19) dX0_init_80 (fun q7 _ => ?_)
  refine j_world (w' := jset (pX κ G7 (xI (xI xZ 4 1) 5 1) [15, 14, 13, 12, 49, 9, 6, 0]) (18 + 1) (q7, arX κ G7 (xI (xI xZ 4 1) 5 1) 18)) rfl ?_
  refine jx_mk hκ C hnm 18 rfl rfl rfl (by decide) rfl rfl rfl q207 dX0_init_82 hG7 (fun G8 hG8 => ?_)
  refine j_aload_n C dX0_init_85 rfl rfl ?_
  refine j_bipush C (v := 9) dX0_init_86 rfl ?_
  refine j_newarr C (ty := .int) rfl q182 (t0 := 0) (hκ.ty 0 rfl) (fun _ h => by cases h) (N' := 9) (a0 := (9, .inl fun _ => 0)) (fun cA => rfl) (by decide) rfl (Nat.le_of_ble_eq_true rfl) (Nat.le_of_ble_eq_true rfl) (Nat.le_of_ble_eq_true rfl) (fun _ => 20) dX0_init_88 (fun q8 _ => ?_)
  refine j_world (w' := jset (pX κ G8 (xI (xI xZ 4 1) 5 1) [18, 15, 14, 13, 12, 49, 9, 6, 0]) (19 + 1) (q8, arX κ G8 (xI (xI xZ 4 1) 5 1) 19)) rfl ?_
  refine jx_mk hκ C hnm 19 rfl rfl rfl (by decide) rfl rfl rfl q208 dX0_init_90 hG8 (fun G9 hG9 => ?_)
  refine j_aload_n C dX0_init_93 rfl rfl ?_
  refine j_sipush C (v := 4000) dX0_init_94 rfl ?_
  refine j_newarr C (ty := .int) rfl q182 (t0 := 0) (hκ.ty 0 rfl) (fun _ h => by cases h) (N' := 4000) (a0 := (4000, .inl fun _ => 0)) (fun cA => rfl) (by decide) rfl (Nat.le_of_ble_eq_true rfl) (Nat.le_of_ble_eq_true rfl) (Nat.le_of_ble_eq_true rfl) (fun _ => 22) dX0_init_97 (fun q9 _ => ?_)
  refine j_world (w' := jset (pX κ G9 (xI (xI xZ 4 1) 5 1) [19, 18, 15, 14, 13, 12, 49, 9, 6, 0]) (21 + 1) (q9, arX κ G9 (xI (xI xZ 4 1) 5 1) 21)) rfl ?_
  refine jx_mk hκ C hnm 21 rfl rfl rfl (by decide) rfl rfl rfl q210 dX0_init_99 hG9 (fun G10 hG10 => ?_)
  refine j_aload_n C dX0_init_102 rfl rfl ?_
  refine j_sipush C (v := 1000) dX0_init_103 rfl ?_
  refine j_newarr C (ty := .boolean) rfl q337 (t0 := 2) (hκ.ty 2 rfl) (fun _ h => by cases h) (N' := 1000) (a0 := (1000, .inl fun _ => 0)) (fun cA => rfl) (by decide) rfl (Nat.le_of_ble_eq_true rfl) (Nat.le_of_ble_eq_true rfl) (Nat.le_of_ble_eq_true rfl) (fun _ => 24) dX0_init_106 (fun q10 _ => ?_)
  refine j_world (w' := jset (pX κ G10 (xI (xI xZ 4 1) 5 1) [21, 19, 18, 15, 14, 13, 12, 49, 9, 6, 0]) (23 + 1) (q10, arX κ G10 (xI (xI xZ 4 1) 5 1) 23)) rfl ?_
  refine jx_mk hκ C hnm 23 rfl rfl rfl (by decide) rfl rfl rfl q212 dX0_init_108 hG10 (fun G11 hG11 => ?_)
  refine j_aload_n C dX0_init_111 rfl rfl ?_
  refine j_sipush C (v := 1000) dX0_init_112 rfl ?_
  refine j_newarr C (ty := .boolean) rfl q337 (t0 := 2) (hκ.ty 2 rfl) (fun _ h => by cases h) (N' := 1000) (a0 := (1000, .inl fun _ => 0)) (fun cA => rfl) (by decide) rfl (Nat.le_of_ble_eq_true rfl) (Nat.le_of_ble_eq_true rfl) (Nat.le_of_ble_eq_true rfl) (fun _ => 25) dX0_init_115 (fun q11 _ => ?_)
  refine j_world (w' := jset (pX κ G11 (xI (xI xZ 4 1) 5 1) [23, 21, 19, 18, 15, 14, 13, 12, 49, 9, 6, 0]) (24 + 1) (q11, arX κ G11 (xI (xI xZ 4 1) 5 1) 24)) rfl ?_
  refine jx_mk hκ C hnm 24 rfl rfl rfl (by decide) rfl rfl rfl q213 dX0_init_117 hG11 (fun G12 hG12 => ?_)
  refine j_aload_n C dX0_init_120 rfl rfl ?_
  refine j_bipush C (v := 60) dX0_init_121 rfl ?_
  refine j_newarr C (ty := .int) rfl q182 (t0 := 0) (hκ.ty 0 rfl) (fun _ h => by cases h) (N' := 60) (a0 := (60, .inl fun _ => 0)) (fun cA => rfl) (by decide) rfl (Nat.le_of_ble_eq_true rfl) (Nat.le_of_ble_eq_true rfl) (Nat.le_of_ble_eq_true rfl) (fun _ => 26) dX0_init_123 (fun q12 _ => ?_)
  refine j_world (w' := jset (pX κ G12 (xI (xI xZ 4 1) 5 1) [24, 23, 21, 19, 18, 15, 14, 13, 12, 49, 9, 6, 0]) (25 + 1) (q12, arX κ G12 (xI (xI xZ 4 1) 5 1) 25)) rfl ?_
  refine jx_mk hκ C hnm 25 rfl rfl rfl (by decide) rfl rfl rfl q214 dX0_init_125 hG12 (fun G13 hG13 => ?_)
  refine j_aload_n C dX0_init_128 rfl rfl ?_
  refine j_iconst C (v := (-1)) dX0_init_129 rfl ?_
  refine jx_mkI hκ C 29 rfl (by decide) rfl rfl q218 rfl dX0_init_130 hG13 ?_
  refine j_aload_n C dX0_init_133 rfl rfl ?_
  refine j_bipush C (v := 9) dX0_init_134 rfl ?_
  refine j_newarr C (ty := .int) rfl q182 (t0 := 0) (hκ.ty 0 rfl) (fun _ h => by cases h) (N' := 9) (a0 := (9, .inl fun _ => 0)) (fun cA => rfl) (by decide) rfl (Nat.le_of_ble_eq_true rfl) (Nat.le_of_ble_eq_true rfl) (Nat.le_of_ble_eq_true rfl) (fun _ => 37) dX0_init_136 (fun q13 _ => ?_)
  refine j_world (w' := jset (pX κ G13 (xI (xI (xI xZ 4 1) 5 1) 29 (-1)) [25, 24, 23, 21, 19, 18, 15, 14, 13, 12, 49, 9, 6, 0]) (36 + 1) (q13, arX κ G13 (xI (xI (xI xZ 4 1) 5 1) 29 (-1)) 36)) rfl ?_
  refine jx_mk hκ C hnm 36 rfl rfl rfl (by decide) rfl rfl rfl q225 dX0_init_138 hG13 (fun G14 hG14 => ?_)
  refine j_aload_n C dX0_init_141 rfl rfl ?_
  refine j_bipush C (v := 24) dX0_init_142 rfl ?_
  refine j_newarr C (ty := .byte) rfl q181 (t0 := 3) (hκ.ty 3 rfl) (fun _ h => by cases h) (N' := 24) (a0 := (24, .inl fun _ => 0)) (fun cA => rfl) (by decide) rfl (Nat.le_of_ble_eq_true rfl) (Nat.le_of_ble_eq_true rfl) (Nat.le_of_ble_eq_true rfl) (fun _ => 46) dX0_init_144 (fun q14 _ => ?_)
  refine j_world (w' := jset (pX κ G14 (xI (xI (xI xZ 4 1) 5 1) 29 (-1)) [36, 25, 24, 23, 21, 19, 18, 15, 14, 13, 12, 49, 9, 6, 0]) (45 + 1) (q14, arX κ G14 (xI (xI (xI xZ 4 1) 5 1) 29 (-1)) 45)) rfl ?_
  refine jx_mk hκ C hnm 45 rfl rfl rfl (by decide) rfl rfl rfl q234 dX0_init_146 hG14 (fun G15 hG15 => ?_)
  refine j_aload_n C dX0_init_149 rfl rfl ?_
  refine j_bipush C (v := 50) dX0_init_150 rfl ?_
  refine j_newq C q183 (fun s hs => hAO s hs _ (by decide)) (t0 := 7) (hκ.ty 7 rfl) (N' := 50) (by decide) rfl (Nat.le_of_ble_eq_true rfl) (Nat.le_of_ble_eq_true rfl) (Nat.le_of_ble_eq_true rfl) (fun _ => 47) dX0_init_152 (fun q15 _ => ?_)
  refine j_world (w' := jset (pX κ G15 (xI (xI (xI xZ 4 1) 5 1) 29 (-1)) [45, 36, 25, 24, 23, 21, 19, 18, 15, 14, 13, 12, 49, 9, 6, 0]) (46 + 1) (q15, arX κ G15 (xI (xI (xI xZ 4 1) 5 1) 29 (-1)) 46)) rfl ?_
  refine jx_mk hκ C hnm 46 rfl rfl rfl (by decide) rfl rfl rfl q235 dX0_init_155 hG15 (fun G16 hG16 => ?_)
  refine j_aload_n C dX0_init_158 rfl rfl ?_
  refine j_bipush C (v := 6) dX0_init_159 rfl ?_
  refine j_newq C q185 (fun s hs => hAO s hs _ (by decide)) (t0 := 8) (hκ.ty 8 rfl) (N' := 6) (by decide) rfl (Nat.le_of_ble_eq_true rfl) (Nat.le_of_ble_eq_true rfl) (Nat.le_of_ble_eq_true rfl) (fun _ => 49) dX0_init_161 (fun q16 _ => ?_)
  refine j_world (w' := jset (pX κ G16 (xI (xI (xI xZ 4 1) 5 1) 29 (-1)) [46, 45, 36, 25, 24, 23, 21, 19, 18, 15, 14, 13, 12, 49, 9, 6, 0]) (48 + 1) (q16, arX κ G16 (xI (xI (xI xZ 4 1) 5 1) 29 (-1)) 48)) rfl ?_
  refine jx_mk hκ C hnm 48 rfl rfl rfl (by decide) rfl rfl rfl q237 dX0_init_164 hG16 (fun G17 hG17 => ?_)
  rw [pX_wX κ G17 (xI (xI (xI xZ 4 1) 5 1) 29 (-1)) (fun _ => rfl) (by decide)]
  exact j_vret C dX0_init_167 (Nat.le_of_ble_eq_true rfl) (Nat.le_of_ble_eq_true rfl) ⟨rfl, _, hG17, rfl⟩
