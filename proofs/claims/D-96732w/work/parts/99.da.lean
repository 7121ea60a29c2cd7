/-! PLAIN LAW: shortest, leftOut. Own text. -/
set_option maxRecDepth 100000
def b53 (S : MS) (o : List Nat) : Prop := ∀ (j x : Nat), o[j]? = some x → ma S 53 j = x
theorem K52.b53 {S S' : MS} (h : K52 S S') {o : List Nat} (g : b53 S o) : b53 S' o := fun j x e => by rw [ma_cg (h.2.2 53 (by decide))]; exact g j x e
theorem took_iz {X : XS} {M S : MS} (h : R X M) (hm : sm M S) {N : Nat} {o : List Nat} (ho : o.length ≤ 9) (hx : ∀ x : Nat, x ∈ o → (x : Int) < mi M 0) (ha : Ar S o) : ∀ (r pre : List Nat) (n : Nat) (t a : Int), r.length < n → o = pre ++ r → (-1 ≤ a ∧ a < mi M 0) → m_took_b7 N S (iz o.length) n (iz t) (iz a) (iz pre.length) = some (iz (t + cst M a r)) := by
  have rS := (h.scr (xs.rf X) hm).1
  have e0 : mi S 0 = mi M 0 := sm_mi hm rfl
  have e3 : ma S 5 3 = ma M 5 3 := sm_ma hm rfl 3
  intro r
  induction r with
  | nil =>
    intro pre n t a hn e hA
    obtain ⟨n, rfl⟩ : ∃ n', n = n' + 1 := ⟨n - 1, by omega⟩
    rw [m_took_b7]
    refine iteTE ?_ (bindE (show m_minutes S (iz a) (-1) = some (iz (dst S a (-1))) by rw [show (-1 : Int32) = iz (-1) from rfl]; exact m_minutes_iz rS (p := a) (q := -1) (by omega) (by omega)) ?_)
    · rw [e, List.append_nil]; exact Int32.le_refl _
    · rw [iz_add, dst_sm hm]; rfl
  | cons p r ih =>
    intro pre n t a hn e hA
    obtain ⟨n, rfl⟩ : ∃ n', n = n' + 1 := ⟨n - 1, by simp at hn; omega⟩
    have ep : o[pre.length]? = some p := by rw [e, List.getElem?_append_right (Nat.le_refl _), Nat.sub_self]; rfl
    have pl := (List.getElem?_eq_some_iff.mp ep).1
    have ap := ha _ _ ep
    have pm := hx p (by rw [e]; exact List.mem_append.mpr (Or.inr (List.mem_cons_self ..)))
    have cel : S.2.1 52 (iz pre.length).toNatClampNeg = iz p := by rw [iz_clampN (by omega), ma_eq S 52, ap]
    rw [m_took_b7]
    have np : iz pre.length + 1 = iz (((pre ++ [p]).length : Nat) : Int) := by rw [show (1 : Int32) = iz 1 from rfl, iz_add, List.length_append]; rfl
    refine iteFE (by rw [iz_le (by omega)]; omega) (chkE rfl (by omega) (bindE (by rw [cel]; exact m_minutes_iz rS (p := a) (q := p) (by omega) (by omega)) ?_))
    rw [nmE]
    refine chkE rfl (by omega) ?_
    rw [nmE, nmE, cel, ma_eq S 5, e3, dst_sm hm, iz_add, iz_add, np]
    have := ih (pre ++ [p]) n (t + (dst M a p + ma M 5 3)) p (by simp at hn ⊢; omega) (by rw [e, List.append_assoc]; rfl) (by omega)
    rw [this]
    show some (iz (t + (dst M a p + ma M 5 3) + cst M p r)) = some (iz (t + (ma M 5 3 + dst M a p + cst M p r)))
    congr 2
    omega
theorem copy53_l (N : Nat) {M : MS} {o : List Nat} (ho : o.length ≤ 9) (l3 : Int32) (k42 : MS → Int32 → Int32 → Option (Int32 × MS)) : ∀ (n i : Nat) (S : MS), i ≤ o.length → o.length - i < n → sm M S → Ar S o → (∀ (j x : Nat), j < i → o[j]? = some x → ma S 53 j = x) → ∃ S', m_shortestOf_b70 N (iz o.length) l3 k42 n S (iz i) = (b2 (m_nextOrder N S' (iz o.length)) fun v2 T3 => k42 T3 l3 (b2i v2)) ∧ sm M S' ∧ Ar S' o ∧ b53 S' o := by
  intro n
  induction n with
  | zero => intro i S a b; omega
  | succ n ih =>
    intro i S a b hm ha hb
    rw [m_shortestOf_b70]
    by_cases c : o.length ≤ i
    · exact ⟨S, iteTE ((iz_le (by omega)).mpr (by omega)) rfl, hm, ha, fun j x e => hb j x (by have := (List.getElem?_eq_some_iff.mp e).1; omega) e⟩
    have ni : iz i + 1 = iz ((i + 1 : Nat) : Int) := by rw [show (1 : Int32) = iz 1 from rfl, iz_add]; rfl
    have ei := List.getElem?_eq_getElem (l := o) (i := i) (by omega)
    have e52 := ha i _ ei
    have r52 := ma_R S 52 i
    obtain ⟨S', g1, g2⟩ := ih (i + 1) (sA S 53 i (iz ((o[i]'(by omega) : Nat) : Int))) (by omega) (by omega) (hm.setA rfl _ _) (fun j x e => by
      rw [ma_sA _ _ _ (by omega), if_neg (by decide)]; exact ha j x e) (fun j x hj e => by
      rw [ma_sA _ _ _ (by omega), if_pos rfl]
      by_cases d : j = i
      · subst d
        rw [ei] at e
        rw [if_pos rfl, ← Option.some.inj e]
      · rw [if_neg d]; exact hb j x (by omega) e)
    refine ⟨S', iteFE (by rw [iz_le (by omega)]; omega) (chkE rfl (by omega) (chkE rfl (by omega) ?_)), g2⟩
    rw [nmE, nmE, ni, iz_clampN (by omega), ma_eq S 52, e52]
    exact g1
theorem orders_l {X : XS} {M : MS} (h : R X M) {N : Nat} (hN : 20 ≤ N) {n : Nat} (hn : n ≤ 9) {l : List Nat} (hl : up l) : ∀ (t : List (List Nat)) (fu : Nat) (o : List Nat) (S : MS) (b : Int × List Nat), t.length + 1 < fu → Pth o t l.reverse → (∀ q, q ∈ o :: t → q.length = n ∧ ∀ x : Nat, x ∈ q → (x : Int) < mi M 0) → sm M S → Ar S o → b53 S b.2 → (-1 ≤ b.1 ∧ b.1 ≤ 5000) → ∃ S', m_shortestOf_b42 N (iz n) fu S (iz b.1) 1 = some (iz (bst (cst M (-1)) b (o :: t)).1, S') ∧ sm M S' ∧ b53 S' (bst (cst M (-1)) b (o :: t)).2 := by
  intro t
  have n9 := h.1.1.2
  induction t with
  | nil =>
    intro fu o S b hf hp ho hm ha hb hr
    obtain ⟨fu, rfl⟩ : ∃ f, fu = f + 2 := ⟨fu - 2, by simp at hf; omega⟩
    obtain ⟨o1, o2⟩ := ho o (List.mem_cons_self ..)
    have hp' : o = l.reverse := hp
    have tk : m_took N S (iz n) = some (iz (cst M (-1) o)) := by
      unfold m_took
      have := took_iz h hm (N := N) (o := o) (by omega) o2 ha o [] N 0 (-1) (by omega) rfl (by omega)
      rw [o1] at this
      rw [show (0 : Int) + cst M (-1) o = cst M (-1) o by omega] at this
      exact this
    have tR := cst_R h.1 o (-1) (by omega) o2
    have lt0 : (iz b.1 < 0) ↔ b.1 < 0 := by rw [show (0 : Int32) = iz 0 from rfl, iz_lt (by omega)]
    have leb : (iz b.1 ≤ iz (cst M (-1) o)) ↔ b.1 ≤ cst M (-1) o := iz_le (by omega)
    have endd : ∀ (S : MS) (l3 : Int32), Ar S o → (b2 (m_nextOrder N S (iz n)) fun v2 T3 => m_shortestOf_b42 N (iz n) (fu + 1) T3 l3 (b2i v2)) = some (l3, S) := fun S l3 ha => by
      rw [← o1]
      refine b2E (next_none hN hl hp' (by omega) ha) ?_
      rw [m_shortestOf_b42]
      exact iteTE rfl rfl
    have cp : ∃ S', m_shortestOf_b70 N (iz n) (iz (cst M (-1) o)) (fun t y3 y4 => m_shortestOf_b42 N (iz n) (fu + 1) t y3 y4) N S 0 = some (iz (cst M (-1) o), S') ∧ sm M S' ∧ b53 S' o := by
      obtain ⟨S', g1, g2, g3, g4⟩ := copy53_l N (o := o) (by omega) (iz (cst M (-1) o)) (fun t y3 y4 => m_shortestOf_b42 N (iz n) (fu + 1) t y3 y4) N 0 S (by omega) (by omega) hm ha (fun j x hj _ => absurd hj (by omega))
      rw [o1] at g1
      exact ⟨S', g1.trans (endd S' _ g3), g2, g4⟩
    rw [m_shortestOf_b42]
    show ∃ S', _ = some (iz (bst (cst M (-1)) (if b.1 < 0 ∨ cst M (-1) o < b.1 then (cst M (-1) o, o) else b) []).1, S') ∧ sm M S' ∧ b53 S' (bst (cst M (-1)) (if b.1 < 0 ∨ cst M (-1) o < b.1 then (cst M (-1) o, o) else b) []).2
    rw [bst]
    by_cases c1 : b.1 < 0
    · rw [if_pos (Or.inl c1)]
      obtain ⟨S', g1, g2⟩ := cp
      exact ⟨S', iteFE (by decide) (bindE tk (iteTE (lt0.mpr c1) g1)), g2⟩
    · by_cases c2 : b.1 ≤ cst M (-1) o
      · rw [if_neg (show ¬ (b.1 < 0 ∨ cst M (-1) o < b.1) by omega)]
        exact ⟨S, iteFE (by decide) (bindE tk (iteFE (fun z => c1 (lt0.mp z)) (iteTE (leb.mpr c2) (endd S _ ha)))), hm, hb⟩
      · rw [if_pos (Or.inr (by omega))]
        obtain ⟨S', g1, g2⟩ := cp
        exact ⟨S', iteFE (by decide) (bindE tk (iteFE (fun z => c1 (lt0.mp z)) (iteFE (fun z => c2 (leb.mp z)) g1))), g2⟩
  | cons o' t ih =>
    intro fu o S b hf hp ho hm ha hb hr
    obtain ⟨fu, rfl⟩ : ∃ f, fu = f + 1 := ⟨fu - 1, by omega⟩
    obtain ⟨o1, o2⟩ := ho o (List.mem_cons_self ..)
    have tk : m_took N S (iz n) = some (iz (cst M (-1) o)) := by
      unfold m_took
      have := took_iz h hm (N := N) (o := o) (by omega) o2 ha o [] N 0 (-1) (by omega) rfl (by omega)
      rw [o1] at this
      rw [show (0 : Int) + cst M (-1) o = cst M (-1) o by omega] at this
      exact this
    have tR := cst_R h.1 o (-1) (by omega) o2
    have lt0 : (iz b.1 < 0) ↔ b.1 < 0 := by rw [show (0 : Int32) = iz 0 from rfl, iz_lt (by omega)]
    have leb : (iz b.1 ≤ iz (cst M (-1) o)) ↔ b.1 ≤ cst M (-1) o := iz_le (by omega)
    have endd : ∀ (S : MS) (c : Int × List Nat), sm M S → Ar S o → b53 S c.2 → (-1 ≤ c.1 ∧ c.1 ≤ 5000) → ∃ S', (b2 (m_nextOrder N S (iz n)) fun v2 T3 => m_shortestOf_b42 N (iz n) fu T3 (iz c.1) (b2i v2)) = some (iz (bst (cst M (-1)) c (o' :: t)).1, S') ∧ sm M S' ∧ b53 S' (bst (cst M (-1)) c (o' :: t)).2 := fun S c hm ha hc hr => by
      obtain ⟨S1, g1, g2, g3, g4⟩ := next_some hN (S := S) hp.1 (by omega) ha
      obtain ⟨S', k1, k2⟩ := ih fu o' S1 c (by simp at hf; omega) hp.2 (fun q hq => ho q (List.mem_cons_of_mem _ hq)) (hm.tr g2.sm) g3 (g2.b53 hc) hr
      rw [o1] at g1
      exact ⟨S', b2E g1 k1, k2⟩
    have cp : ∃ S', m_shortestOf_b70 N (iz n) (iz (cst M (-1) o)) (fun t y3 y4 => m_shortestOf_b42 N (iz n) fu t y3 y4) N S 0 = some (iz (bst (cst M (-1)) (cst M (-1) o, o) (o' :: t)).1, S') ∧ sm M S' ∧ b53 S' (bst (cst M (-1)) (cst M (-1) o, o) (o' :: t)).2 := by
      obtain ⟨S1, g1, g2, g3, g4⟩ := copy53_l N (o := o) (by omega) (iz (cst M (-1) o)) (fun t y3 y4 => m_shortestOf_b42 N (iz n) fu t y3 y4) N 0 S (by omega) (by omega) hm ha (fun j x hj _ => absurd hj (by omega))
      rw [o1] at g1
      obtain ⟨S', k1, k2⟩ := endd S1 (cst M (-1) o, o) g2 g3 g4 (by show -1 ≤ cst M (-1) o ∧ cst M (-1) o ≤ 5000; omega)
      exact ⟨S', g1.trans k1, k2⟩
    rw [m_shortestOf_b42]
    rw [show bst (cst M (-1)) b (o :: o' :: t) = bst (cst M (-1)) (if b.1 < 0 ∨ cst M (-1) o < b.1 then (cst M (-1) o, o) else b) (o' :: t) from rfl]
    by_cases c1 : b.1 < 0
    · rw [if_pos (Or.inl c1)]
      obtain ⟨S', g1, g2⟩ := cp
      exact ⟨S', iteFE (by decide) (bindE tk (iteTE (lt0.mpr c1) g1)), g2⟩
    · by_cases c2 : b.1 ≤ cst M (-1) o
      · rw [if_neg (show ¬ (b.1 < 0 ∨ cst M (-1) o < b.1) by omega)]
        obtain ⟨S', g1, g2⟩ := endd S b hm ha hb hr
        exact ⟨S', iteFE (by decide) (bindE tk (iteFE (fun z => c1 (lt0.mp z)) (iteTE (leb.mpr c2) g1))), g2⟩
      · rw [if_pos (Or.inr (by omega))]
        obtain ⟨S', g1, g2⟩ := cp
        exact ⟨S', iteFE (by decide) (bindE tk (iteFE (fun z => c1 (lt0.mp z)) (iteFE (fun z => c2 (leb.mp z)) g1))), g2⟩
theorem set_l {X : XS} {M : MS} (h : R X M) (N : Nat) {s m : Nat} (hm0 : mi M 0 = m) (hs : s < 512) : ∀ (fu p : Nat) (S : MS), p ≤ m → m - p < fu → sm M S → Ar S (els s p) → ∃ S', m_shortestOf_b4 N (iz s) fu S (iz (els s p).length) (iz p) = m_shortestOf_b42 N (iz (els s m).length) N S' (iz (-1)) 1 ∧ sm M S' ∧ Ar S' (els s m) := by
  intro fu
  have n9 := h.1.1.2
  induction fu with
  | zero => intro p S a b; omega
  | succ fu ih =>
    intro p S a b hm ha
    rw [m_shortestOf_b4, hm.2.1 0 rfl, mi_eq M 0, hm0]
    by_cases c : m ≤ p
    · obtain rfl : p = m := by omega
      exact ⟨S, iteTE (Int32.le_refl _) rfl, hm, ha⟩
    have cc : ¬ iz m ≤ iz p := by rw [iz_le (by omega)]; omega
    have np : iz p + 1 = iz ((p + 1 : Nat) : Int) := by rw [show (1 : Int32) = iz 1 from rfl, iz_add]; rfl
    have bt := (bits_at hs (p := p) (by omega)).1.1
    have sn : els s (p + 1) = els s p ++ (if s.testBit p then [p] else []) := by
      show elF _ 0 (p + 1) = _
      rw [elF_snoc, Nat.zero_add]; rfl
    have len : ∀ q, q ≤ 9 → (els s q).length ≤ q := fun q _ => by
      have : ∀ k p, (elF (fun p => s.testBit p) p k).length ≤ k := by
        intro k
        induction k with
        | zero => intro p; exact Nat.le_refl _
        | succ k ihk =>
          intro p
          rw [elF]
          split
          · rw [List.length_cons]; have := ihk (p + 1); omega
          · have := ihk (p + 1); omega
      exact this q 0
    have lp := len p (by omega)
    by_cases ct : s.testBit p = true
    · rw [ct, if_pos rfl] at sn
      have nl : iz (els s p).length + 1 = iz (((els s (p + 1)).length : Nat) : Int) := by rw [show (1 : Int32) = iz 1 from rfl, iz_add, sn, List.length_append]; rfl
      obtain ⟨S', g1, g2⟩ := ih (p + 1) (sA S 52 (els s p).length (iz p)) (by omega) (by omega) (hm.setA rfl _ _) (fun j x e => by
        rw [ma_sA _ _ _ (by omega), if_pos rfl]
        rw [sn] at e
        by_cases d : j = (els s p).length
        · subst d
          rw [List.getElem?_append_right (Nat.le_refl _), Nat.sub_self] at e
          rw [if_pos rfl, ← Option.some.inj e]
        · have := (List.getElem?_eq_some_iff.mp e).1
          rw [List.length_append] at this
          have l1 : [p].length = 1 := rfl
          rw [List.getElem?_append_left (by omega)] at e
          rw [if_neg d]
          exact ha j x e)
      refine ⟨S', iteFE cc (iteTE (bt.mpr ct) ?_), g2⟩
      rw [nmE]
      refine chkE rfl (by omega) ?_
      rw [nmE, nmE, nl, np, iz_clampN (by omega)]
      exact g1
    · rw [if_neg ct, List.append_nil] at sn
      obtain ⟨S', g1, g2⟩ := ih (p + 1) S (by omega) (by omega) hm (by rw [sn]; exact ha)
      refine ⟨S', iteFE cc (iteFE (fun z => ct (bt.mp z)) ?_), g2⟩
      rw [nmE, np, ← sn]
      exact g1
/-- the best order of a set, in both -/
theorem best_iz' {X T : XS} {M S : MS} (h : R X M) (hx : xs X T) (hm : sm M S) {N : Nat} (hN : 20000 ≤ N) {s m : Nat} (hm0 : mi M 0 = m) (hs : s < 2 ^ m) (h7 : (els s m).length ≤ 7) : ∃ (v : Int) (o : List Nat) (T' : XS) (S' : MS), x_shortestOf N T (iz s) = some (iz v, T') ∧ m_shortestOf N S (iz s) = some (iz v, S') ∧ xs X T' ∧ sm M S' ∧ (0 ≤ v ∧ v ≤ 5000) ∧ o.length = (els s m).length ∧ (∀ (j x : Nat), o[j]? = some x → T'.2.1 19 j = iz x ∧ ma S' 53 j = x) := by
  have n9 := h.1.1.2
  have p9 := pow9 (n := m) (by omega)
  have lup : up (els s m) := elF_up _ _ _
  have lm : ∀ x, x ∈ els s m → x < m := fun x hx => els_mem hx
  obtain ⟨T', g1, g2, g3, g4, g5, g6⟩ := go_iz h (N := N) (by omega) hm0 (cst M (-1)) 10 (els s m).length (els s m) [] s 0 (-1) (xI T 20 (iz (-1))) (-1, []) rfl (by omega) rfl hs (by have : ([] : List Nat).length = 0 := rfl; omega) (by omega) (fun o => by rw [Int.zero_add]; rfl) (by have : ([] : List Nat).length = 0 := rfl; omega) ⟨hx.setI rfl _, rfl, by decide, fun j x e => by simp at e, fun j x e => by simp at e⟩
  have em : ((prm (els s m).length (els s m)).map fun o => [] ++ o) = prm (els s m).length (els s m) := by
    have : (fun o : List Nat => [] ++ o) = id := by funext o; rfl
    rw [this, List.map_id]
  rw [em] at g3 g4 g5
  obtain ⟨t, t1, t2⟩ := prm_path _ (els s m) rfl lup
  have tl := prm_len _ (els s m) rfl lup
  have f7 : fc (els s m).length ≤ 5040 := by
    rcases (show (els s m).length = 0 ∨ (els s m).length = 1 ∨ (els s m).length = 2 ∨ (els s m).length = 3 ∨ (els s m).length = 4 ∨ (els s m).length = 5 ∨ (els s m).length = 6 ∨ (els s m).length = 7 by omega) with e | e | e | e | e | e | e | e <;> rw [e] <;> decide
  have tmem := prm_mem _ (els s m) rfl lup
  rw [t1] at tl tmem g3 g4 g5
  rw [List.length_cons] at tl
  obtain ⟨S1, a1, a2, a3⟩ := set_l h N hm0 (s := s) (by omega) N 0 S (by omega) (by omega) hm (fun j x e => by simp [els, elF] at e)
  obtain ⟨S', b1, b2, b3⟩ := orders_l h (N := N) (by omega) (n := (els s m).length) (by omega) lup t N (els s m) S1 (-1, []) (by omega) t2 (fun q hq => by
    obtain ⟨q1, q2⟩ := tmem q hq
    exact ⟨q1, fun x hx => by have := lm x (q2 x hx); omega⟩) a2 a3 (fun j x e => by simp at e) (by decide)
  have fin := bst_from (cst M (-1)) (fun r => (-1 ≤ r.1 ∧ (0 ≤ r.1 ∨ r.1 = -1)) ∧ (0 ≤ r.1 → r.2.length = (els s m).length)) (els s m :: t) (-1, []) ⟨by decide, fun z => absurd z (by decide)⟩ (fun o ho => by
    obtain ⟨q1, q2⟩ := tmem o ho
    have := cst_R h.1 o (-1) (by omega) (fun x hx => by have := lm x (q2 x hx); omega)
    exact ⟨⟨by show -1 ≤ cst M (-1) o; omega, Or.inl this.1⟩, fun _ => q1⟩)
  have pos : 0 ≤ (bst (cst M (-1)) (-1, []) (els s m :: t)).1 := by
    have e : bst (cst M (-1)) (-1, []) (els s m :: t) = bst (cst M (-1)) (cst M (-1) (els s m), els s m) t := by
      rw [bst, if_pos (Or.inl (by decide))]
    rw [e]
    refine bst_from (cst M (-1)) (fun r => 0 ≤ r.1) t _ ?_ (fun o ho => ?_)
    · obtain ⟨q1, q2⟩ := tmem (els s m) (List.mem_cons_self ..)
      exact (cst_R h.1 _ (-1) (by omega) (fun x hx => by have := lm x (q2 x hx); omega)).1
    · obtain ⟨q1, q2⟩ := tmem o (List.mem_cons_of_mem _ ho)
      exact (cst_R h.1 _ (-1) (by omega) (fun x hx => by have := lm x (q2 x hx); omega)).1
  refine ⟨(bst (cst M (-1)) (-1, []) (els s m :: t)).1, (bst (cst M (-1)) (-1, []) (els s m :: t)).2, T', S', ?_, ?_, g2, b2, ⟨pos, g4.2⟩, fin.2 pos, fun j x e => ⟨g5 j x e, b3 j x e⟩⟩
  · unfold x_shortestOf
    rw [nmE]
    exact bindE g1 (by rw [g3])
  · unfold m_shortestOf
    exact a1.trans b1
theorem law_shortest {X : XS} {M : MS} (h : R X M) {N : Nat} (hN : 20000 ≤ N) (p w : Int32) : same (x_shortest N X p w) (m_shortest N M p w) := by
  obtain ⟨z, hz, rfl⟩ := izE p
  obtain ⟨k, hk, rfl⟩ := izE w
  have n9 := h.1.1.2
  obtain ⟨m, hm0⟩ : ∃ m : Nat, mi M 0 = m := ⟨(mi M 0).toNat, by omega⟩
  have p9 := pow9 (n := m) (by omega)
  have pw := pow_at (n := m) (by omega)
  unfold x_shortest m_shortest
  have a2 : m_isSet M (iz z) = some (decide (0 ≤ z ∧ z ≤ ((2 ^ m - 1 : Nat) : Int))) := by
    unfold m_isSet
    rw [mi_eq M 0, hm0, pw, show (0 : Int32) = iz 0 from rfl, m_within_iz (by omega)]
    rfl
  have a1 : x_arePosts X (iz z) = some (decide (0 ≤ z ∧ z ≤ ((2 ^ m - 1 : Nat) : Int))) := by
    unfold x_arePosts
    rw [h.1.1.1, hm0, pw, show (0 : Int32) = iz 0 from rfl, x_in_iz (by omega)]
    rfl
  by_cases c : ¬ (0 ≤ z ∧ z ≤ ((2 ^ m - 1 : Nat) : Int))
  · rw [decide_eq_false c] at a1 a2
    exact ⟨_, _, _, bindE a1 (iteTE rfl rfl), bindE a2 (iteTE rfl rfl), h⟩
  replace c := Decidable.not_not.mp c
  rw [decide_eq_true c] at a1 a2
  have lek : ((-1 : Int32) ≤ iz k) ↔ -1 ≤ k := by rw [show (-1 : Int32) = iz (-1) from rfl, iz_le (by omega)]
  by_cases ck : ¬ -1 ≤ k
  · exact ⟨_, _, _, bindE a1 (iteFE b2iT (iteFE (fun y => ck (lek.mp y)) rfl)), bindE a2 (iteFE b2iT (iteFE (fun y => ck (lek.mp y)) rfl)), h⟩
  replace ck := Decidable.not_not.mp ck
  obtain ⟨s, rfl⟩ : ∃ s : Nat, z = s := ⟨z.toNat, by omega⟩
  have hs : s < 2 ^ m := by omega
  have bc := cnt_at (s := s) (by omega)
  rw [els_9 hs (by omega)] at bc
  have l9 : (els s m).length ≤ 9 := by
    have : (els s m).length ≤ m := by
      have : ∀ k p, (elF (fun p => s.testBit p) p k).length ≤ k := by
        intro k
        induction k with
        | zero => intro p; exact Nat.le_refl _
        | succ k ihk =>
          intro p
          rw [elF]
          split
          · rw [List.length_cons]; have := ihk (p + 1); omega
          · have := ihk (p + 1); omega
      exact this m 0
    omega
  have le7 : (iz (els s m).length ≤ (7 : Int32)) ↔ (els s m).length ≤ 7 := by rw [show (7 : Int32) = iz 7 from rfl, iz_le (by omega)]; omega
  by_cases c7 : ¬ (els s m).length ≤ 7
  · exact ⟨_, _, _, bindE a1 (iteFE b2iT (iteTE (lek.mpr ck) (bindE bc (iteFE (fun y => c7 (le7.mp y)) rfl)))), bindE a2 (iteFE b2iT (iteTE (lek.mpr ck) (bindE bc (iteFE (fun y => c7 (le7.mp y)) rfl)))), h⟩
  replace c7 := Decidable.not_not.mp c7
  obtain ⟨v, o, T', S', g1, g2, g3, g4, g5, g6, g7⟩ := best_iz' h (xs.rf X) (sm.rf M) hN hm0 hs c7
  have le0 : ((0 : Int32) ≤ iz k) ↔ 0 ≤ k := by rw [show (0 : Int32) = iz 0 from rfl, iz_le (by omega)]
  have ltc : (iz k < iz (els s m).length) ↔ k < (els s m).length := iz_lt (by omega)
  have lec : (iz (els s m).length ≤ iz k) ↔ ((els s m).length : Int) ≤ k := iz_le (by omega)
  have eq1 : (iz k = (-1 : Int32)) ↔ k = -1 := by rw [show (-1 : Int32) = iz (-1) from rfl, iz_eq (by omega)]
  have xx : ∀ r, (if (0 : Int32) ≤ iz k then (j_bitCount (iz s)).bind fun v9 => (if v9 ≤ iz k then some ((-2), T') else chk 9 (iz k) (some (T'.2.1 19 (iz k).toNatClampNeg, T'))) else some (iz v, T')) = r → x_shortest N X (iz s) (iz k) = r := fun r hr => by
    unfold x_shortest
    exact bindE a1 (iteFE b2iT (iteTE (lek.mpr ck) (bindE bc (iteTE (le7.mpr c7) (b2E g1 hr)))))
  have mm : ∀ r, (if iz k < iz (els s m).length then b2 (m_shortestOf N M (iz s)) fun v8 T9 => (if iz k = (-1) then some (v8, T9) else chk 9 (iz k) (some (T9.2.1 53 (iz k).toNatClampNeg, T9))) else some ((-2), M)) = r → m_shortest N M (iz s) (iz k) = r := fun r hr => by
    unfold m_shortest
    exact bindE a2 (iteFE b2iT (iteTE (lek.mpr ck) (bindE bc (iteTE (le7.mpr c7) (bindE bc hr)))))
  by_cases k0 : 0 ≤ k
  · by_cases kc : ((els s m).length : Int) ≤ k
    · exact ⟨-2, T', M, xx _ (iteTE (le0.mpr k0) (bindE bc (iteTE (lec.mpr kc) rfl))), mm _ (iteFE (fun y => by have := ltc.mp y; omega) rfl), h.scr g3 (sm.rf M)⟩
    · obtain ⟨kn', rfl⟩ : ∃ kn' : Nat, k = kn' := ⟨k.toNat, by omega⟩
      have e := List.getElem?_eq_getElem (l := o) (i := kn') (by omega)
      obtain ⟨q1, q2⟩ := g7 _ _ e
      refine ⟨iz ((o[kn']'(by omega) : Nat) : Int), T', S', xx _ (iteTE (le0.mpr k0) (bindE bc (iteFE (fun y => kc (lec.mp y)) (chkE rfl (by omega) ?_)))), mm _ (iteTE (ltc.mpr (by omega)) (b2E g2 (iteFE (fun y => by have := eq1.mp y; omega) (chkE rfl (by omega) ?_)))), h.scr g3 g4⟩
      · rw [iz_clampN (by omega), q1]
      · rw [iz_clampN (by omega), ma_eq S' 53, q2]
  · exact ⟨iz v, T', S', xx _ (iteFE (fun y => k0 (le0.mp y)) rfl), mm _ (iteTE (ltc.mpr (by omega)) (b2E g2 (iteTE (eq1.mpr (by omega)) rfl))), h.scr g3 g4⟩
theorem left_l {X : XS} {M : MS} (h : R X M) {N : Nat} (hN : 20000 ≤ N) {s m : Nat} (hm0 : mi M 0 = m) (hs : s < 2 ^ m) (h7 : (els s m).length ≤ 7) (l2 : Int32) : ∀ (n p : Nat) (T : XS) (S : MS) (a b : Int), p ≤ m → m - p < n → xs X T → sm M S → (a = -2 ∨ (0 ≤ a ∧ a ≤ 9)) → (-2 ≤ b ∧ b ≤ 5000) → ∃ v T' S', x_leftOut_b41 N (iz s) l2 n T (iz a) (iz b) (iz p) = some (v, T') ∧ m_leftOut_b41 N (iz s) l2 n S (iz a) (iz b) (iz p) = some (v, S') ∧ xs X T' ∧ sm M S' := by
  intro n
  have n9 := h.1.1.2
  have p9 := pow9 (n := m) (by omega)
  induction n with
  | zero => intro p T S a b q; omega
  | succ n ih =>
    intro p T S a b hp hn hx hm ha hb
    have t1 : T.1 1 = iz m := by rw [(h.scr hx (sm.rf M)).1.1.1, hm0]
    have s0 : S.1 0 = iz m := by rw [hm.2.1 0 rfl, mi_eq, hm0]
    rw [x_leftOut_b41, m_leftOut_b41, t1, s0]
    by_cases c : m ≤ p
    · have cc : iz m ≤ iz p := (iz_le (by omega)).mpr (by omega)
      by_cases d : l2 = 0
      · exact ⟨_, T, S, iteTE cc (iteTE d rfl), iteTE cc (iteTE d rfl), hx, hm⟩
      · exact ⟨_, T, S, iteTE cc (iteFE d rfl), iteTE cc (iteFE d rfl), hx, hm⟩
    have cc : ¬ iz m ≤ iz p := by rw [iz_le (by omega)]; omega
    have np : iz p + 1 = iz ((p + 1 : Nat) : Int) := by rw [show (1 : Int32) = iz 1 from rfl, iz_add]; rfl
    obtain ⟨⟨-, bt⟩, bc⟩ := bits_at (s := s) (p := p) (by omega) (by omega)
    have hb' := has_iz (s := s) (p := p) (by omega) (by omega)
    by_cases ct : s.testBit p = true
    · rw [ct] at hb'
      have cl : (els (clr s p) m).length ≤ 7 := by
        rw [els_clr (by omega)]
        exact Nat.le_trans (List.length_filter_le ..) h7
      obtain ⟨v, o, T1, S1, g1, g2, g3, g4, g5, -⟩ := best_iz' h hx hm hN hm0 (Nat.lt_of_le_of_lt (clr_le s p) hs) cl
      have lt0 : (iz a < (0 : Int32)) ↔ a < 0 := by rw [show (0 : Int32) = iz 0 from rfl, iz_lt (by omega)]
      have eq2 : (iz a = (-2 : Int32)) ↔ a = -2 := by rw [show (-2 : Int32) = iz (-2) from rfl, iz_eq (by omega)]
      have ltb : (iz v < iz b) ↔ v < b := iz_lt (by omega)
      have e2 : ¬ ((((iz s) >>> ((iz p) &&& 31)) &&& 1) = (0 : Int32)) := fun y => by rw [bt.mp y] at ct; cases ct
      by_cases k1 : a = -2
      · obtain ⟨r, T', S', u1, u2, u3⟩ := ih (p + 1) T1 S1 p v (by omega) (by omega) g3 g4 (by omega) (by omega)
        refine ⟨r, T', S', iteFE cc (bindE hb' (iteFE b2iT (b2E (by rw [bc]; exact g1) (iteTE (lt0.mpr (by omega)) ?_)))), iteFE cc (iteFE e2 (b2E (by rw [bc]; exact g2) (iteTE (eq2.mpr k1) ?_))), u3⟩
        · rw [nmE, np]; exact u1
        · rw [nmE, np]; exact u2
      · by_cases k2 : v < b
        · obtain ⟨r, T', S', u1, u2, u3⟩ := ih (p + 1) T1 S1 p v (by omega) (by omega) g3 g4 (by omega) (by omega)
          refine ⟨r, T', S', iteFE cc (bindE hb' (iteFE b2iT (b2E (by rw [bc]; exact g1) (iteFE (fun y => by have := lt0.mp y; omega) (iteTE (ltb.mpr k2) ?_))))), iteFE cc (iteFE e2 (b2E (by rw [bc]; exact g2) (iteFE (fun y => k1 (eq2.mp y)) (iteTE (ltb.mpr k2) ?_)))), u3⟩
          · rw [nmE, np]; exact u1
          · rw [nmE, np]; exact u2
        · obtain ⟨r, T', S', u1, u2, u3⟩ := ih (p + 1) T1 S1 a b (by omega) (by omega) g3 g4 ha hb
          refine ⟨r, T', S', iteFE cc (bindE hb' (iteFE b2iT (b2E (by rw [bc]; exact g1) (iteFE (fun y => by have := lt0.mp y; omega) (iteFE (fun y => k2 (ltb.mp y)) ?_))))), iteFE cc (iteFE e2 (b2E (by rw [bc]; exact g2) (iteFE (fun y => k1 (eq2.mp y)) (iteFE (fun y => k2 (ltb.mp y)) ?_)))), u3⟩
          · rw [nmE, np]; exact u1
          · rw [nmE, np]; exact u2
    · have cf : s.testBit p = false := by simpa using ct
      rw [cf] at hb'
      obtain ⟨r, T', S', u1, u2, u3⟩ := ih (p + 1) T S a b (by omega) (by omega) hx hm ha hb
      refine ⟨r, T', S', iteFE cc (bindE hb' (iteTE rfl ?_)), iteFE cc (iteTE (bt.mpr cf) ?_), u3⟩
      · rw [nmE, np]; exact u1
      · rw [nmE, np]; exact u2
theorem law_leftOut {X : XS} {M : MS} (h : R X M) {N : Nat} (hN : 20000 ≤ N) (p w : Int32) : same (x_leftOut N X p w) (m_leftOut N M p w) := by
  obtain ⟨z, hz, rfl⟩ := izE p
  obtain ⟨k, hk, rfl⟩ := izE w
  have n9 := h.1.1.2
  obtain ⟨m, hm0⟩ : ∃ m : Nat, mi M 0 = m := ⟨(mi M 0).toNat, by omega⟩
  have p9 := pow9 (n := m) (by omega)
  have pw := pow_at (n := m) (by omega)
  unfold x_leftOut m_leftOut
  have a2 : m_isSet M (iz z) = some (decide (0 ≤ z ∧ z ≤ ((2 ^ m - 1 : Nat) : Int))) := by
    unfold m_isSet
    rw [mi_eq M 0, hm0, pw, show (0 : Int32) = iz 0 from rfl, m_within_iz (by omega)]
    rfl
  have a1 : x_arePosts X (iz z) = some (decide (0 ≤ z ∧ z ≤ ((2 ^ m - 1 : Nat) : Int))) := by
    unfold x_arePosts
    rw [h.1.1.1, hm0, pw, show (0 : Int32) = iz 0 from rfl, x_in_iz (by omega)]
    rfl
  by_cases c : ¬ (0 ≤ z ∧ z ≤ ((2 ^ m - 1 : Nat) : Int))
  · rw [decide_eq_false c] at a1 a2
    exact ⟨_, _, _, bindE a1 (iteTE rfl rfl), bindE a2 (iteTE rfl rfl), h⟩
  replace c := Decidable.not_not.mp c
  rw [decide_eq_true c] at a1 a2
  have f1 : x_in (iz k) 0 1 = some (decide (0 ≤ k ∧ k ≤ 1)) := by rw [show (0 : Int32) = iz 0 from rfl, show (1 : Int32) = iz 1 from rfl, x_in_iz (by omega)]
  have f2 : m_within (iz k) 0 1 = some (decide (0 ≤ k ∧ k ≤ 1)) := f1
  by_cases ck : ¬ (0 ≤ k ∧ k ≤ 1)
  · rw [decide_eq_false ck] at f1 f2
    exact ⟨_, _, _, bindE a1 (iteFE b2iT (bindE f1 (iteTE rfl rfl))), bindE a2 (iteFE b2iT (bindE f2 (iteTE rfl rfl))), h⟩
  replace ck := Decidable.not_not.mp ck
  rw [decide_eq_true ck] at f1 f2
  obtain ⟨s, rfl⟩ : ∃ s : Nat, z = s := ⟨z.toNat, by omega⟩
  have hs : s < 2 ^ m := by omega
  have bc := cnt_at (s := s) (by omega)
  rw [els_9 hs (by omega)] at bc
  have l9 : (els s 9).length ≤ 9 := by
    have : ∀ k p, (elF (fun p => s.testBit p) p k).length ≤ k := by
      intro k
      induction k with
      | zero => intro p; exact Nat.le_refl _
      | succ k ihk =>
        intro p
        rw [elF]
        split
        · rw [List.length_cons]; have := ihk (p + 1); omega
        · have := ihk (p + 1); omega
    exact this 9 0
  rw [els_9 hs (by omega)] at l9
  have le7 : (iz (els s m).length ≤ (7 : Int32)) ↔ (els s m).length ≤ 7 := by rw [show (7 : Int32) = iz 7 from rfl, iz_le (by omega)]; omega
  by_cases c7 : ¬ (els s m).length ≤ 7
  · exact ⟨_, _, _, bindE a1 (iteFE b2iT (bindE f1 (iteFE b2iT (bindE bc (iteFE (fun y => c7 (le7.mp y)) rfl))))), bindE a2 (iteFE b2iT (bindE f2 (iteFE b2iT (bindE bc (iteFE (fun y => c7 (le7.mp y)) rfl))))), h⟩
  replace c7 := Decidable.not_not.mp c7
  obtain ⟨v, T', S', g1, g2, g3, g4⟩ := left_l h hN hm0 hs c7 (iz k) N 0 X M (-2) (-2) (by omega) (by omega) (xs.rf X) (sm.rf M) (Or.inl rfl) (by decide)
  exact ⟨v, T', S', bindE a1 (iteFE b2iT (bindE f1 (iteFE b2iT (bindE bc (iteTE (le7.mpr c7) g1))))), bindE a2 (iteFE b2iT (bindE f2 (iteFE b2iT (bindE bc (iteTE (le7.mpr c7) g2))))), h.scr g3 g4⟩
