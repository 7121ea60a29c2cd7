/-! PLAIN LAW: the shortest way. Own text. -/
set_option maxRecDepth 100000
def cst (M : MS) : Int → List Nat → Int
  | a, [] => dst M a (-1)
  | a, p :: r => ma M 5 3 + dst M a p + cst M p r
theorem cst_R {X : XS} {M : MS} (h : RP X M) : ∀ (o : List Nat) (a : Int), (-1 ≤ a ∧ a < mi M 0) → (∀ x : Nat, x ∈ o → (x : Int) < mi M 0) → 0 ≤ cst M a o ∧ cst M a o ≤ 279 * (o.length + 1) := by
  intro o
  have hs := h.2.2.1.2.2.2
  induction o with
  | nil =>
    intro a ha _
    have := dst_R h (p := a) (q := -1) ha (by omega)
    unfold cst
    simp only [List.length_nil]
    omega
  | cons p r ih =>
    intro a ha hx
    have hp := hx p (List.mem_cons_self ..)
    have := dst_R h (p := a) (q := p) ha (by omega)
    have := ih p (by omega) (fun x hm => hx x (List.mem_cons_of_mem _ hm))
    unfold cst
    simp only [List.length_cons]
    omega
def bst (tt : List Nat → Int) : Int × List Nat → List (List Nat) → Int × List Nat
  | s, [] => s
  | s, o :: L => bst tt (if s.1 < 0 ∨ tt o < s.1 then (tt o, o) else s) L
theorem bst_app (tt : List Nat → Int) : ∀ (L L' : List (List Nat)) (s : Int × List Nat), bst tt s (L ++ L') = bst tt (bst tt s L) L' := by
  intro L
  induction L with
  | nil => intro L' s; rfl
  | cons o L ih => intro L' s; exact ih L' _
theorem bst_skip (tt : List Nat → Int) : ∀ (L : List (List Nat)) (s : Int × List Nat), 0 ≤ s.1 → (∀ o, o ∈ L → s.1 ≤ tt o) → bst tt s L = s := by
  intro L
  induction L with
  | nil => intro s _ _; rfl
  | cons o L ih =>
    intro s h1 h2
    have := h2 o (List.mem_cons_self ..)
    rw [bst, if_neg (by omega)]
    exact ih s h1 (fun o ho => h2 o (List.mem_cons_of_mem _ ho))
/-- what the best is made of -/
theorem bst_from (tt : List Nat → Int) (P : Int × List Nat → Prop) : ∀ (L : List (List Nat)) (s : Int × List Nat), P s → (∀ o, o ∈ L → P (tt o, o)) → P (bst tt s L) := by
  intro L
  induction L with
  | nil => intro s h _; exact h
  | cons o L ih =>
    intro s h1 h2
    rw [bst]
    refine ih _ ?_ (fun o ho => h2 o (List.mem_cons_of_mem _ ho))
    split
    · exact h2 o (List.mem_cons_self ..)
    · exact h1
/-! bits -/
def clr (s p : Nat) : Nat := s &&& (511 ^^^ 2 ^ p)
theorem clr_bit {s p q : Nat} (hq : q < 9) : (clr s p).testBit q = (s.testBit q && (q != p)) := by
  unfold clr
  rw [Nat.testBit_and, Nat.testBit_xor, Nat.testBit_two_pow]
  have : (511 : Nat).testBit q = true := by
    rcases (show q = 0 ∨ q = 1 ∨ q = 2 ∨ q = 3 ∨ q = 4 ∨ q = 5 ∨ q = 6 ∨ q = 7 ∨ q = 8 by omega) with e | e | e | e | e | e | e | e | e <;> subst e <;> rfl
  rw [this]
  by_cases c : q = p
  · subst c; simp
  · have : ¬ p = q := fun e => c e.symm
    simp [c, this]
theorem clr_le (s p : Nat) : clr s p ≤ s := Nat.and_le_left
theorem bits_ok : ((List.range 512).all fun s => (List.range 9).all fun p => (((((iz (s : Int)) >>> (iz (p : Int) &&& 31)) &&& 1 == 1) == s.testBit p) && (((iz (s : Int)) >>> (iz (p : Int) &&& 31)) &&& 1 == 0) == !s.testBit p) && (iz (s : Int) &&& ((1 <<< (iz (p : Int) &&& 31)) ^^^ (-1)) == iz ((clr s p : Nat) : Int))) = true := by decide +kernel
theorem bits_at {s p : Nat} (hs : s < 512) (hp : p < 9) : ((((((iz (s : Int)) >>> (iz (p : Int) &&& 31)) &&& 1) = 1) ↔ s.testBit p = true) ∧ (((((iz (s : Int)) >>> (iz (p : Int) &&& 31)) &&& 1) = 0) ↔ s.testBit p = false)) ∧ iz (s : Int) &&& ((1 <<< (iz (p : Int) &&& 31)) ^^^ (-1)) = iz ((clr s p : Nat) : Int) := by
  have h := List.all_eq_true.mp bits_ok s (List.mem_range.mpr hs)
  have h := List.all_eq_true.mp h p (List.mem_range.mpr hp)
  simp only [Bool.and_eq_true, beq_iff_eq] at h
  obtain ⟨⟨h1, h2⟩, h3⟩ := h
  refine ⟨⟨?_, ?_⟩, h3⟩
  · rw [← h1]; simp
  · constructor
    · intro e
      rw [e] at h2
      simpa using h2.symm
    · intro e
      rw [e] at h2
      simpa using h2
theorem has_iz {s p : Nat} (hs : s < 512) (hp : p < 9) : x_has (iz s) (iz p) = some (s.testBit p) := by
  have := (bits_at hs hp).1.1
  unfold x_has
  by_cases c : s.testBit p = true
  · rw [c]; exact iteTE (this.mpr c) rfl
  · rw [show s.testBit p = false by simpa using c]; exact iteFE (fun z => c (this.mp z)) rfl
theorem pow_ok : ((List.range 10).all fun n => ((1 : Int32) <<< (iz (n : Int) &&& 31)) - 1 == iz (((2 ^ n - 1 : Nat)) : Int)) = true := by decide +kernel
theorem pow_at {n : Nat} (hn : n ≤ 9) : ((1 : Int32) <<< (iz (n : Int) &&& 31)) - 1 = iz (((2 ^ n - 1 : Nat)) : Int) := by
  have h := List.all_eq_true.mp pow_ok n (List.mem_range.mpr (by omega))
  simpa using h
theorem pow9 {n : Nat} (hn : n ≤ 9) : 1 ≤ 2 ^ n ∧ 2 ^ n ≤ 512 := by
  rcases (show n = 0 ∨ n = 1 ∨ n = 2 ∨ n = 3 ∨ n = 4 ∨ n = 5 ∨ n = 6 ∨ n = 7 ∨ n = 8 ∨ n = 9 by omega) with e | e | e | e | e | e | e | e | e | e <;> subst e <;> decide
def els (s n : Nat) : List Nat := elF (fun p => s.testBit p) 0 n
theorem cnt_ok : ((List.range 512).all fun s => j_bitCount (iz (s : Int)) == some (iz (((els s 9).length : Nat) : Int))) = true := by decide +kernel
theorem cnt_at {s : Nat} (hs : s < 512) : j_bitCount (iz (s : Int)) = some (iz (((els s 9).length : Nat) : Int)) := by
  have h := List.all_eq_true.mp cnt_ok s (List.mem_range.mpr hs)
  simpa using h
theorem elF_snoc (h : Nat → Bool) : ∀ (k p : Nat), elF h p (k + 1) = elF h p k ++ (if h (p + k) then [p + k] else []) := by
  intro k
  induction k with
  | zero =>
    intro p
    rw [elF, elF, elF, Nat.add_zero]
    rfl
  | succ k ih =>
    intro p
    rw [elF, ih (p + 1)]
    rw [show p + 1 + k = p + (k + 1) by omega]
    by_cases c : h p = true
    · rw [if_pos c, show elF h p (k + 1) = p :: elF h (p + 1) k by rw [elF, if_pos c]]; rfl
    · rw [if_neg c, show elF h p (k + 1) = elF h (p + 1) k by rw [elF, if_neg c]]
theorem elF_nil {h : Nat → Bool} : ∀ (k p : Nat), (∀ x, p ≤ x → x < p + k → h x = false) → elF h p k = [] := by
  intro k
  induction k with
  | zero => intro p _; rfl
  | succ k ih =>
    intro p e
    rw [elF, e p (by omega) (by omega), ih (p + 1) (fun x a b => e x (by omega) (by omega))]
    rfl
theorem bit_hi {s n x : Nat} (h : s < 2 ^ n) (hx : n ≤ x) : s.testBit x = false := Nat.testBit_lt_two_pow (Nat.lt_of_lt_of_le h (Nat.pow_le_pow_right (by omega) hx))
theorem els_more {s n : Nat} (h : s < 2 ^ n) : ∀ d, els s (n + d) = els s n := by
  intro d
  induction d with
  | zero => rfl
  | succ d ih =>
    show elF _ 0 ((n + d) + 1) = _
    rw [elF_snoc, Nat.zero_add, bit_hi h (by omega)]
    show elF _ 0 (n + d) ++ [] = _
    rw [List.append_nil]
    exact ih
theorem els_9 {s n : Nat} (h : s < 2 ^ n) (hn : n ≤ 9) : els s 9 = els s n := by
  have := els_more h (9 - n)
  rw [show n + (9 - n) = 9 by omega] at this
  exact this
theorem els_clr {s n p : Nat} (hn : n ≤ 9) : els (clr s p) n = (els s n).filter (fun b => b != p) := by
  unfold els
  rw [elF_filter]
  exact elF_cg n 0 (fun x _ hx => clr_bit (by omega))
theorem els_nil {s n : Nat} (h : s < 2 ^ n) (e : els s n = []) : s = 0 := by
  refine Nat.eq_of_testBit_eq (fun x => ?_)
  rw [Nat.zero_testBit]
  by_cases c : x < n
  · cases hb : s.testBit x
    · rfl
    · have : x ∈ els s n := (elF_mem _ n 0 x).mpr ⟨by omega, by omega, hb⟩
      rw [e] at this
      cases this
  · exact bit_hi h (by omega)
theorem els_mem {s n x : Nat} (h : x ∈ els s n) : x < n := by have := (elF_mem _ n 0 x).mp h; omega
/-- the component's state on its way -/
def Sx (X T : XS) (b : Int × List Nat) (pre : List Nat) : Prop := xs X T ∧ T.1 20 = iz b.1 ∧ (-1 ≤ b.1 ∧ b.1 ≤ 5000) ∧ (∀ (j x : Nat), b.2[j]? = some x → T.2.1 19 j = iz x) ∧ ∀ (j x : Nat), pre[j]? = some x → T.2.1 18 j = iz x
theorem Sx.pre {X T : XS} {b : Int × List Nat} {pre r : List Nat} (h : Sx X T b (pre ++ r)) : Sx X T b pre := ⟨h.1, h.2.1, h.2.2.1, h.2.2.2.1, fun j x e => h.2.2.2.2 j x (by
  rw [List.getElem?_append_left (List.getElem?_eq_some_iff.mp e).1]; exact e)⟩
theorem Sx.put {X T : XS} {b : Int × List Nat} {pre : List Nat} (h : Sx X T b pre) (p : Nat) : Sx X (xA T 18 pre.length (iz p)) b (pre ++ [p]) := by
  obtain ⟨h1, h2, h3, h4, h5⟩ := h
  refine ⟨h1.setA rfl _ _, h2, h3, fun j x e => ?_, fun j x e => ?_⟩
  · rw [xA21, if_neg (by decide)]; exact h4 j x e
  · rw [xA21, if_pos rfl]
    by_cases c : j = pre.length
    · subst c
      rw [List.getElem?_append_right (Nat.le_refl _), Nat.sub_self] at e
      rw [if_pos rfl, ← Option.some.inj e]
    · rw [if_neg c]
      have := (List.getElem?_eq_some_iff.mp e).1
      rw [List.length_append] at this
      have l1 : [p].length = 1 := rfl
      refine h5 j x ?_
      rw [List.getElem?_append_left (by omega)] at e
      exact e
theorem copy_l (o : XS → Int32 → Int32 → Int32 → Int32 → Option XS) (N : Nat) {X : XS} {pre : List Nat} (hp : pre.length ≤ 9) : ∀ (n i : Nat) (T : XS), i ≤ pre.length → pre.length - i < n → xs X T → (∀ (j x : Nat), pre[j]? = some x → T.2.1 18 j = iz x) → (∀ (j x : Nat), j < i → pre[j]? = some x → T.2.1 19 j = iz x) → ∃ T', x_goShortest_b65 o N (iz pre.length) n T (iz i) = some T' ∧ xs X T' ∧ T'.1 20 = T.1 20 ∧ (∀ (j x : Nat), pre[j]? = some x → T'.2.1 18 j = iz x) ∧ ∀ (j x : Nat), pre[j]? = some x → T'.2.1 19 j = iz x := by
  intro n
  induction n with
  | zero => intro i T a b; omega
  | succ n ih =>
    intro i T a b hx h1 h2
    rw [x_goShortest_b65]
    by_cases c : pre.length ≤ i
    · exact ⟨T, iteTE ((iz_le (by omega)).mpr (by omega)) rfl, hx, rfl, h1, fun j x e => h2 j x (by have := (List.getElem?_eq_some_iff.mp e).1; omega) e⟩
    have ni : iz i + 1 = iz ((i + 1 : Nat) : Int) := by rw [show (1 : Int32) = iz 1 from rfl, iz_add]; rfl
    have ei := List.getElem?_eq_getElem (l := pre) (i := i) (by omega)
    have e18 := h1 i _ ei
    obtain ⟨T', g1, g2, g3, g4, g5⟩ := ih (i + 1) (xA T 19 i (iz ((pre[i]'(by omega) : Nat) : Int))) (by omega) (by omega) (hx.setA rfl _ _) (fun j x e => by
      rw [xA21, if_neg (by decide)]; exact h1 j x e) (fun j x hj e => by
      rw [xA21, if_pos rfl]
      by_cases d : j = i
      · subst d
        rw [ei] at e
        rw [if_pos rfl, ← Option.some.inj e]
      · rw [if_neg d]; exact h2 j x (by omega) e)
    refine ⟨T', iteFE (by rw [iz_le (by omega)]; omega) (chkE rfl (by omega) (chkE rfl (by omega) ?_)), g2, g3, g4, g5⟩
    rw [nmE, nmE, ni, iz_clampN (by omega), e18]
    exact g1
theorem go_iz {X : XS} {M : MS} (h : R X M) {N m : Nat} (hN : 20 ≤ N) (hm : mi M 0 = m) (tt : List Nat → Int) : ∀ (d k : Nat) (l pre : List Nat) (s : Nat) (w a : Int) (T : XS) (b : Int × List Nat), l.length = k → k < d → l = els s m → s < 2 ^ m → pre.length + k ≤ 9 → (-1 ≤ a ∧ a < m) → (∀ o, tt (pre ++ o) = w + cst M a o) → (0 ≤ w ∧ w ≤ 279 * pre.length) → Sx X T b pre → ∃ T', x_goShortest N d T (iz s) (iz pre.length) (iz w) (iz a) = some T' ∧ Sx X T' (bst tt b ((prm k l).map fun o => pre ++ o)) pre := by
  have n9 := h.1.1.2
  have p9 := pow9 (n := m) (by omega)
  intro d
  induction d with
  | zero => intro k l pre s w a T b _ h2; omega
  | succ d ih =>
    intro k l pre s w a T b hl hk hs hs2 hp ha ht hw hx
    have hul : up l := by rw [hs]; exact elF_up _ _ _
    have lm : ∀ x, x ∈ l → x < m := fun x hx => by rw [hs] at hx; exact els_mem hx
    have tR : ∀ o : List Nat, o.length = k → (∀ x, x ∈ o → x ∈ l) → w ≤ tt (pre ++ o) ∧ tt (pre ++ o) ≤ 5000 := fun o ho hx => by
      have := cst_R h.1 o a (by omega) (fun x q => by have := lm x (hx x q); omega)
      rw [ht o]
      omega
    have hx' := hx
    obtain ⟨h1, h2, h3, h4, h5⟩ := hx'
    rw [x_goShortest, h2]
    have lt0 : (iz b.1 < 0) ↔ b.1 < 0 := by rw [show (0 : Int32) = iz 0 from rfl, iz_lt (by omega)]
    have ltw : (iz w < iz b.1) ↔ w < b.1 := iz_lt (by omega)
    -- the body
    have body : ∃ T', x_goShortest_b16 (x_goShortest N d) N (iz s) (iz pre.length) (iz w) (iz a) T = some T' ∧ Sx X T' (bst tt b ((prm k l).map fun o => pre ++ o)) pre := by
      unfold x_goShortest_b16
      have rp := (h.scr h1 (sm.rf M)).1
      by_cases c : s = 0
      · have l0 : l = [] := by
          rw [hs]
          exact elF_nil _ _ (fun x _ _ => by rw [c]; exact Nat.zero_testBit x)
        have k0 : k = 0 := by rw [← hl, l0]; rfl
        subst k0
        have e0 := ht []
        rw [List.append_nil] at e0
        have t0 := tR [] rfl (fun x hx => by cases hx)
        rw [List.append_nil] at t0
        have e0' : tt pre = w + dst M a (-1) := e0
        have res : bst tt b ((prm 0 l).map fun o => pre ++ o) = (if b.1 < 0 ∨ tt pre < b.1 then (tt pre, pre) else b) := by
          show bst tt b [pre ++ []] = _
          rw [List.append_nil]; rfl
        rw [res]
        have leaf : ∃ T', x_goShortest_b36 (x_goShortest N d) N (iz pre.length) T (iz w) (iz (dst M a (-1))) = some T' ∧ Sx X T' (if b.1 < 0 ∨ tt pre < b.1 then (tt pre, pre) else b) pre := by
          unfold x_goShortest_b36
          rw [nmE, iz_add, ← e0', h2]
          have ltt : (iz (tt pre) < iz b.1) ↔ tt pre < b.1 := iz_lt (by omega)
          obtain ⟨T', g1, g2, g3, g4, g5⟩ := copy_l (x_goShortest N d) N (X := X) (pre := pre) (by omega) N 0 (xI T 20 (iz (tt pre))) (by omega) (by omega) (h1.setI rfl _) h5 (fun j x hj _ => absurd hj (by omega))
          by_cases c1 : b.1 < 0
          · rw [if_pos (Or.inl c1)]
            refine ⟨T', iteTE (lt0.mpr c1) ?_, g2, g3, by omega, g5, g4⟩
            rw [nmE]; exact g1
          · by_cases c2 : tt pre < b.1
            · rw [if_pos (Or.inr c2)]
              refine ⟨T', iteFE (fun z => c1 (lt0.mp z)) (iteTE (ltt.mpr c2) ?_), g2, g3, by omega, g5, g4⟩
              rw [nmE]; exact g1
            · rw [if_neg (show ¬ (b.1 < 0 ∨ tt pre < b.1) by omega)]
              exact ⟨T, iteFE (fun z => c1 (lt0.mp z)) (iteFE (fun z => c2 (ltt.mp z)) rfl), hx⟩
        obtain ⟨T', g1, g2⟩ := leaf
        refine ⟨T', iteTE (by rw [c]; rfl) ?_, g2⟩
        by_cases ca : 0 ≤ a
        · refine iteTE (by rw [show (0 : Int32) = iz 0 from rfl, iz_le (by omega)]; exact ca) (bindE (x_fromGate_iz rp (p := a) (by omega)) g1)
        · refine iteFE (by rw [show (0 : Int32) = iz 0 from rfl, iz_le (by omega)]; exact ca) ?_
          rw [show a = -1 by omega, dst_self] at g1
          exact g1
      · have ln : l ≠ [] := fun e => c (els_nil hs2 (by rw [← hs]; exact e))
        obtain ⟨k', rfl⟩ : ∃ k', k = k' + 1 := by
          cases l with
          | nil => exact absurd rfl ln
          | cons x l => exact ⟨l.length, by rw [← hl]; rfl⟩
        have loop : ∀ (fu e p : Nat) (T : XS) (b : Int × List Nat), e < fu → p + e = m → Sx X T b pre → ∃ T', x_goShortest_b95 (x_goShortest N d) N (iz s) (iz pre.length) (iz w) (iz a) fu T (iz p) = some T' ∧ Sx X T' (bst tt b (((elF (fun p => s.testBit p) p e).flatMap fun x => (prm k' (l.filter fun b => b != x)).map fun o => x :: o).map fun o => pre ++ o)) pre := by
          intro fu
          induction fu with
          | zero => intro e p T b q; omega
          | succ fu ihl =>
            intro e p T b he hpe hx
            obtain ⟨h1, h2, h3, h4, h5⟩ := id hx
            have np : iz p + 1 = iz ((p + 1 : Nat) : Int) := by rw [show (1 : Int32) = iz 1 from rfl, iz_add]; rfl
            have rp := (h.scr h1 (sm.rf M)).1
            rw [x_goShortest_b95, rp.1.1, hm]
            cases e with
            | zero => exact ⟨T, iteTE (by rw [iz_le (by omega)]; omega) rfl, hx⟩
            | succ e =>
              have cc : ¬ iz m ≤ iz p := by rw [iz_le (by omega)]; omega
              have hb := has_iz (s := s) (p := p) (by omega) (by omega)
              rw [elF]
              by_cases ct : s.testBit p = true
              · rw [ct] at hb
                rw [if_pos ct, List.flatMap_cons, List.map_append, bst_app, List.map_map]
                have pl : p ∈ l := by rw [hs]; exact (elF_mem _ m 0 p).mpr ⟨by omega, by omega, ct⟩
                obtain ⟨u, v, euv⟩ := split_mem pl
                have hu' := hul
                have hl' := hl
                rw [euv] at hu' hl'
                have fl := filter_out hu'
                have x18 := hx.put p
                have dd := dst_R h.1 (p := a) (q := p) (by omega) (by omega)
                have rp3 := (h.scr x18.1 (sm.rf M)).1
                have pw5 := h.1.2.2.1.2.2.2
                obtain ⟨T9, g1, g2⟩ := ih k' (l.filter fun b => b != p) (pre ++ [p]) (clr s p) (w + ma M 5 3 + dst M a p) p (xA T 18 pre.length (iz p)) b (by
                    rw [euv, fl]; simp at hl' ⊢; omega) (by omega) (by rw [els_clr (by omega), hs]) (Nat.lt_of_le_of_lt (clr_le s p) hs2) (by rw [List.length_append]; have : [p].length = 1 := rfl; omega) (by omega) (fun o => by
                    rw [List.append_assoc, ht ([p] ++ o)]
                    show w + (ma M 5 3 + dst M a p + cst M p o) = _
                    omega) (by rw [List.length_append]; have : [p].length = 1 := rfl; omega) x18
                obtain ⟨T', k1, k2⟩ := ihl e (p + 1) T9 _ (by omega) (by omega) g2.pre
                have em : ((fun o => pre ++ o) ∘ fun o => p :: o) = fun o => (pre ++ [p]) ++ o := by
                  funext o
                  show pre ++ p :: o = _
                  rw [List.append_assoc]; rfl
                rw [em]
                have g1' : x_goShortest N d (xA T 18 pre.length (iz p)) (iz ((clr s p : Nat) : Int)) (iz ((pre.length : Nat) : Int) + 1) (iz (w + ma M 5 3 + dst M a p)) (iz p) = some T9 := by
                  rw [← g1]
                  congr 1
                  rw [show (1 : Int32) = iz 1 from rfl, iz_add, List.length_append]; rfl
                refine ⟨T', iteFE cc (bindE hb (iteFE b2iT (chkE rfl (by omega) ?_))), k2⟩
                rw [nmE, iz_clampN (by omega), (bits_at (s := s) (p := p) (by omega) (by omega)).2]
                have e5 : (xA T 18 pre.length (iz p)).1 5 = iz (ma M 5 3) := rp3.2.1.2.2.2
                rw [e5, iz_add]
                by_cases ca : 0 ≤ a
                · refine iteTE (by rw [show (0 : Int32) = iz 0 from rfl, iz_le (by omega)]; exact ca) (bindE (x_between_iz rp3 (p := a) (q := p) (by omega) (by omega)) ?_)
                  rw [iz_add]
                  refine bindE g1' ?_
                  rw [nmE, np]; exact k1
                · refine iteFE (by rw [show (0 : Int32) = iz 0 from rfl, iz_le (by omega)]; exact ca) (bindE (x_fromGate_iz rp3 (p := p) (by omega)) ?_)
                  rw [iz_add, dst_comm, show (-1 : Int) = a by omega]
                  refine bindE g1' ?_
                  rw [nmE, np]; exact k1
              · rw [show s.testBit p = false by simpa using ct] at hb
                rw [if_neg ct]
                obtain ⟨T', k1, k2⟩ := ihl e (p + 1) T b (by omega) (by omega) hx
                refine ⟨T', iteFE cc (bindE hb (iteTE rfl ?_)), k2⟩
                rw [nmE, np]; exact k1
        obtain ⟨T', g1, g2⟩ := loop N m 0 T b (by omega) (by omega) hx
        refine ⟨T', iteFE (by rw [show (0 : Int32) = iz 0 from rfl, iz_eq (by omega)]; omega) g1, ?_⟩
        have e : prm (k' + 1) l = (elF (fun p => s.testBit p) 0 m).flatMap fun x => (prm k' (l.filter fun b => b != x)).map fun o => x :: o := by
          show l.flatMap _ = _
          rw [hs]; rfl
        rw [e]
        exact g2
    by_cases c1 : b.1 < 0
    · obtain ⟨T', g1, g2⟩ := body
      exact ⟨T', iteTE (lt0.mpr c1) g1, g2⟩
    by_cases c2 : w < b.1
    · obtain ⟨T', g1, g2⟩ := body
      exact ⟨T', iteFE (fun z => c1 (lt0.mp z)) (iteTE (ltw.mpr c2) g1), g2⟩
    · refine ⟨T, iteFE (fun z => c1 (lt0.mp z)) (iteFE (fun z => c2 (ltw.mp z)) rfl), ?_⟩
      rw [bst_skip tt _ _ (by omega) (fun o ho => by
        obtain ⟨o', ho', rfl⟩ := List.mem_map.mp ho
        obtain ⟨q1, q2⟩ := prm_mem k l hl hul o' ho'
        have := tR o' q1 q2
        omega)]
      exact hx
