/-! PLAIN LAW: orders. Own text. -/
set_option maxRecDepth 100000
def up (l : List Nat) : Prop := l.Pairwise (fun a b => a < b)
/-- the orders of a row, one after another -/
def prm : Nat → List Nat → List (List Nat)
  | 0, _ => [[]]
  | n + 1, l => l.flatMap fun a => (prm n (l.filter fun b => b != a)).map fun o => a :: o
/-- the next order -/
def Nx (o o' : List Nat) : Prop := ∃ (pre u v : List Nat) (x y : Nat), up (u ++ x :: y :: v) ∧ o = pre ++ x :: (u ++ y :: v).reverse ∧ o' = pre ++ y :: (u ++ x :: v)
/-- from an order through a row of orders to the last -/
def Pth : List Nat → List (List Nat) → List Nat → Prop
  | a, [], b => a = b
  | a, c :: t, b => Nx a c ∧ Pth c t b
theorem Pth.app : ∀ (t : List (List Nat)) (a b c d : List Nat) (t' : List (List Nat)), Pth a t b → Nx b c → Pth c t' d → Pth a (t ++ c :: t') d := by
  intro t
  induction t with
  | nil => intro a b c d t' h1 h2 h3; cases h1; exact ⟨h2, h3⟩
  | cons e t ih => intro a b c d t' h1 h2 h3; exact ⟨h1.1, ih e b c d t' h1.2 h2 h3⟩
theorem Nx.cons {o o' : List Nat} (h : Nx o o') (a : Nat) : Nx (a :: o) (a :: o') := by
  obtain ⟨pre, u, v, x, y, h1, h2, h3⟩ := h
  exact ⟨a :: pre, u, v, x, y, h1, by rw [h2]; rfl, by rw [h3]; rfl⟩
theorem Pth.map : ∀ (t : List (List Nat)) (a b : List Nat) (x : Nat), Pth a t b → Pth (x :: a) (t.map fun o => x :: o) (x :: b) := by
  intro t
  induction t with
  | nil => intro a b x h; cases h; rfl
  | cons e t ih => intro a b x h; exact ⟨h.1.cons x, ih e b x h.2⟩
theorem up_app {u v : List Nat} {x : Nat} (h : up (u ++ x :: v)) : (∀ a, a ∈ u → a < x) ∧ (∀ a, a ∈ v → x < a) ∧ up (u ++ v) := by
  obtain ⟨h1, h2, h3⟩ := List.pairwise_append.mp h
  obtain ⟨h4, h5⟩ := List.pairwise_cons.mp h2
  exact ⟨fun a ha => h3 a ha x (List.mem_cons_self ..), h4, List.pairwise_append.mpr ⟨h1, h5, fun a ha b hb => h3 a ha b (List.mem_cons_of_mem _ hb)⟩⟩
theorem filter_out {u v : List Nat} {x : Nat} (h : up (u ++ x :: v)) : (u ++ x :: v).filter (fun b => b != x) = u ++ v := by
  obtain ⟨h1, h2, -⟩ := up_app h
  rw [List.filter_append, List.filter_cons, if_neg (by simp), List.filter_eq_self.mpr (fun a ha => by have := h1 a ha; simp; omega), List.filter_eq_self.mpr (fun a ha => by have := h2 a ha; simp; omega)]
theorem prm_path : ∀ (n : Nat) (l : List Nat), l.length = n → up l → ∃ t, prm n l = l :: t ∧ Pth l t l.reverse := by
  intro n
  induction n with
  | zero =>
    intro l h _
    cases l with
    | nil => exact ⟨[], rfl, rfl⟩
    | cons a l => cases h
  | succ n ih =>
    intro l hl hu
    -- the blocks from a place on
    have blk : ∀ (v u : List Nat) (x : Nat), l = u ++ x :: v → ∃ t, ((x :: v).flatMap fun a => (prm n (l.filter fun b => b != a)).map fun o => a :: o) = (x :: (u ++ v)) :: t ∧ Pth (x :: (u ++ v)) t l.reverse := by
      intro v
      induction v with
      | nil =>
        intro u x e
        have hu' := hu
        rw [e] at hu' hl
        have f1 := filter_out hu'
        obtain ⟨t, t1, t2⟩ := ih (u ++ []) (by simp at hl ⊢; omega) (up_app hu').2.2
        refine ⟨t.map fun o => x :: o, ?_, ?_⟩
        · rw [List.flatMap_cons, List.flatMap_nil, List.append_nil, e, f1, t1]; rfl
        · have := t2.map t _ _ x
          rw [e, List.reverse_append, show ([x].reverse ++ u.reverse : List Nat) = x :: u.reverse from rfl]
          rw [List.append_nil] at this ⊢
          exact this
      | cons y v ihv =>
        intro u x e
        have hu' := hu
        have hl' := hl
        rw [e] at hu' hl'
        have f1 := filter_out hu'
        obtain ⟨t, t1, t2⟩ := ih (u ++ y :: v) (by simp at hl' ⊢; omega) (up_app hu').2.2
        obtain ⟨t', t1', t2'⟩ := ihv (u ++ [x]) y (by rw [e, List.append_assoc]; rfl)
        refine ⟨(t.map fun o => x :: o) ++ (y :: ((u ++ [x]) ++ v)) :: t', ?_, ?_⟩
        · rw [List.flatMap_cons, t1']
          congr 1
          rw [show (List.filter (fun b => b != x) l) = u ++ y :: v by rw [e, f1], t1]
          rfl
        · refine Pth.app _ _ _ _ _ _ (t2.map t _ _ x) ?_ t2'
          exact ⟨[], u, v, x, y, hu', rfl, by rw [List.append_assoc]; rfl⟩
    cases l with
    | nil => cases hl
    | cons x v =>
      obtain ⟨t, t1, t2⟩ := blk v [] x rfl
      exact ⟨t, t1, t2⟩
def fc : Nat → Nat
  | 0 => 1
  | n + 1 => (n + 1) * fc n
theorem flat_len {α β : Type} {f : α → List β} {k : Nat} : ∀ l : List α, (∀ a, a ∈ l → (f a).length = k) → (l.flatMap f).length = l.length * k := by
  intro l
  induction l with
  | nil => intro _; simp
  | cons a l ih =>
    intro h
    rw [List.flatMap_cons, List.length_append, h a (List.mem_cons_self ..), ih (fun b hb => h b (List.mem_cons_of_mem _ hb)), List.length_cons, Nat.succ_mul, Nat.add_comm]
theorem split_mem {l : List Nat} {a : Nat} (h : a ∈ l) : ∃ u v, l = u ++ a :: v := List.append_of_mem h
theorem prm_len : ∀ (n : Nat) (l : List Nat), l.length = n → up l → (prm n l).length = fc n := by
  intro n
  induction n with
  | zero => intro l _ _; rfl
  | succ n ih =>
    intro l hl hu
    have := flat_len (f := fun a => (prm n (l.filter fun b => b != a)).map fun o => a :: o) (k := fc n) l (fun a ha => by
      obtain ⟨u, v, e⟩ := split_mem ha
      have hu' := hu
      have hl' := hl
      rw [e] at hu' hl'
      rw [List.length_map, e, filter_out hu']
      exact ih _ (by simp at hl' ⊢; omega) (up_app hu').2.2)
    rw [hl] at this
    exact this
theorem prm_mem : ∀ (n : Nat) (l : List Nat), l.length = n → up l → ∀ o, o ∈ prm n l → o.length = n ∧ ∀ a, a ∈ o → a ∈ l := by
  intro n
  induction n with
  | zero =>
    intro l _ _ o ho
    have : o = [] := by simpa [prm] using ho
    subst this
    exact ⟨rfl, fun a ha => by cases ha⟩
  | succ n ih =>
    intro l hl hu o ho
    obtain ⟨a, ha, h2⟩ := List.mem_flatMap.mp ho
    obtain ⟨o', ho', rfl⟩ := List.mem_map.mp h2
    obtain ⟨u, v, e⟩ := split_mem ha
    have hu' := hu
    have hl' := hl
    rw [e] at hu' hl'
    rw [e, filter_out hu'] at ho'
    obtain ⟨q1, q2⟩ := ih _ (by simp at hl' ⊢; omega) (up_app hu').2.2 o' ho'
    refine ⟨by rw [List.length_cons, q1], fun b hb => ?_⟩
    rcases List.mem_cons.mp hb with rfl | hb
    · exact ha
    · have := q2 b hb
      rw [e]
      rcases List.mem_append.mp this with z | z
      · exact List.mem_append.mpr (Or.inl z)
      · exact List.mem_append.mpr (Or.inr (List.mem_cons_of_mem _ z))
/-- the numbers of a set, from a place on, so many places -/
def elF (h : Nat → Bool) : Nat → Nat → List Nat
  | _, 0 => []
  | p, k + 1 => if h p then p :: elF h (p + 1) k else elF h (p + 1) k
theorem elF_mem (h : Nat → Bool) : ∀ (k p x : Nat), x ∈ elF h p k ↔ (p ≤ x ∧ x < p + k ∧ h x = true) := by
  intro k
  induction k with
  | zero => intro p x; simp [elF]; omega
  | succ k ih =>
    intro p x
    rw [elF]
    by_cases c : h p = true
    · rw [if_pos c, List.mem_cons, ih]
      constructor
      · rintro (e | ⟨a, b, d⟩)
        · subst e; exact ⟨by omega, by omega, c⟩
        · exact ⟨by omega, by omega, d⟩
      · rintro ⟨a, b, d⟩
        by_cases e : x = p
        · exact Or.inl e
        · exact Or.inr ⟨by omega, by omega, d⟩
    · rw [if_neg c, ih]
      constructor
      · rintro ⟨a, b, d⟩
        exact ⟨by omega, by omega, d⟩
      · rintro ⟨a, b, d⟩
        have e : x ≠ p := fun e => c (by rw [← e]; exact d)
        exact ⟨by omega, by omega, d⟩
theorem elF_up (h : Nat → Bool) : ∀ (k p : Nat), up (elF h p k) := by
  intro k
  induction k with
  | zero => intro p; exact List.Pairwise.nil
  | succ k ih =>
    intro p
    rw [elF]
    split
    · exact List.pairwise_cons.mpr ⟨fun a ha => by have := ((elF_mem h k (p + 1) a).mp ha).1; omega, ih _⟩
    · exact ih _
theorem elF_cg {h h' : Nat → Bool} : ∀ (k p : Nat), (∀ x, p ≤ x → x < p + k → h x = h' x) → elF h p k = elF h' p k := by
  intro k
  induction k with
  | zero => intro p _; rfl
  | succ k ih =>
    intro p e
    rw [elF, elF, e p (by omega) (by omega), ih (p + 1) (fun x a b => e x (by omega) (by omega))]
theorem elF_filter (h : Nat → Bool) (y : Nat) : ∀ (k p : Nat), (elF h p k).filter (fun b => b != y) = elF (fun x => h x && (x != y)) p k := by
  intro k
  induction k with
  | zero => intro p; rfl
  | succ k ih =>
    intro p
    rw [elF, elF]
    by_cases c : h p = true
    · rw [if_pos c, List.filter_cons, ih]
      by_cases d : p = y
      · subst d
        rw [if_neg (by simp), if_neg (by simp)]
      · rw [if_pos (by simpa using d), if_pos (by simp [c, d])]
    · rw [if_neg c, if_neg (by simp [c]), ih]
/-- the index facts of the next order -/
theorem Nx.ix {o o' : List Nat} (h : Nx o o') : ∃ (i k c : Nat) (x : Nat) (W : Nat → Nat), o.length = i + 1 + k ∧ o'.length = i + 1 + k ∧ c < k ∧ o[i]? = some x ∧ (∀ m, m < k → o[i + 1 + m]? = some (W (k - 1 - m))) ∧ (∀ a b, a < b → b < k → W a < W b) ∧ x < W c ∧ (∀ m, m < c → W m < x) ∧ (∀ j, j < i → o'[j]? = o[j]?) ∧ o'[i]? = some (W c) ∧ ∀ m, m < k → o'[i + 1 + m]? = some (if m = c then x else W m) := by
  obtain ⟨pre, u, v, x, y, h1, rfl, rfl⟩ := h
  have hx := up_app h1
  have hw : up (u ++ y :: v) := hx.2.2
  have hy := up_app hw
  have len : (u ++ y :: v).length = u.length + v.length + 1 := by simp; omega
  have ea : ∀ m, m < u.length + v.length + 1 → (u ++ y :: v)[m]? = some ((u ++ y :: v).getD m 0) := fun m hm => by
    rw [List.getD_eq_getElem?_getD, List.getElem?_eq_getElem (by omega)]; rfl
  refine ⟨pre.length, u.length + v.length + 1, u.length, x, fun m => (u ++ y :: v).getD m 0, by simp; omega, by simp; omega, by omega, ?_, fun m hm => ?_, fun a b hab hb => ?_, ?_, fun m hm => ?_, fun j hj => ?_, ?_, fun m hm => ?_⟩
  · rw [List.getElem?_append_right (Nat.le_refl _), Nat.sub_self]; rfl
  · rw [List.getElem?_append_right (by omega), show pre.length + 1 + m - pre.length = m + 1 by omega, List.getElem?_cons_succ, List.getElem?_reverse (by omega), len, ea _ (by omega)]
  · have := List.pairwise_iff_getElem.mp hw a b (by omega) (by omega) hab
    show (u ++ y :: v).getD a 0 < (u ++ y :: v).getD b 0
    rw [List.getD_eq_getElem?_getD, List.getD_eq_getElem?_getD, List.getElem?_eq_getElem (by omega), List.getElem?_eq_getElem (by omega)]
    exact this
  · show x < (u ++ y :: v).getD u.length 0
    rw [List.getD_eq_getElem?_getD, List.getElem?_append_right (Nat.le_refl _), Nat.sub_self]
    exact hx.2.1 y (List.mem_cons_self ..)
  · show (u ++ y :: v).getD m 0 < x
    rw [List.getD_eq_getElem?_getD, List.getElem?_append_left hm, List.getElem?_eq_getElem hm]
    exact hx.1 _ (List.getElem_mem hm)
  · rw [List.getElem?_append_left hj, List.getElem?_append_left hj]
  · rw [List.getElem?_append_right (Nat.le_refl _), Nat.sub_self]
    show some y = some ((u ++ y :: v).getD u.length 0)
    rw [List.getD_eq_getElem?_getD, List.getElem?_append_right (Nat.le_refl _), Nat.sub_self]; rfl
  · rw [List.getElem?_append_right (by omega), show pre.length + 1 + m - pre.length = m + 1 by omega, List.getElem?_cons_succ]
    by_cases c : m = u.length
    · rw [if_pos c, c, List.getElem?_append_right (Nat.le_refl _), Nat.sub_self]; rfl
    · rw [if_neg c]
      show (u ++ x :: v)[m]? = some ((u ++ y :: v).getD m 0)
      rw [← ea m hm]
      by_cases d : m < u.length
      · rw [List.getElem?_append_left d, List.getElem?_append_left d]
      · rw [List.getElem?_append_right (by omega), List.getElem?_append_right (by omega)]
        obtain ⟨m', e⟩ : ∃ m', m - u.length = m' + 1 := ⟨m - u.length - 1, by omega⟩
        rw [e]; rfl
theorem rev_ix {l : List Nat} (h : up l) : ∀ j a b, l.reverse[j]? = some a → l.reverse[j + 1]? = some b → b < a := by
  intro j a b h1 h2
  have hl : j + 1 < l.length := by
    have := (List.getElem?_eq_some_iff.mp h2).1
    rw [List.length_reverse] at this
    exact this
  rw [List.getElem?_reverse (by omega), List.getElem?_eq_getElem (by omega)] at h1
  rw [List.getElem?_reverse (by omega), List.getElem?_eq_getElem (by omega)] at h2
  have := List.pairwise_iff_getElem.mp h (l.length - 1 - (j + 1)) (l.length - 1 - j) (by omega) (by omega) (by omega)
  have e1 := Option.some.inj h1
  have e2 := Option.some.inj h2
  omega
