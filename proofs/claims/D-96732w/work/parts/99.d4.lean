/-! PLAIN LAW: gaps of two, plain part. Own text. -/
set_option maxRecDepth 100000
def Con (P : Int → Prop) (w w' : Int) : Prop := P w ∧ P w' ∧ w < w' ∧ ∀ u, w < u → u < w' → ¬ P u
def Sg (P : Int → Prop) (r : Int) : Prop := (∀ w w', Con P w w' → w' - w ≤ r) ∧ (r ≤ 0 ∨ ∃ w w', Con P w w' ∧ r = w' - w)
theorem Con.cg {P P' : Int → Prop} (e : ∀ w, P w ↔ P' w) {w w' : Int} (h : Con P w w') : Con P' w w' := ⟨(e w).mp h.1, (e w').mp h.2.1, h.2.2.1, fun u a b c => h.2.2.2 u a b ((e u).mpr c)⟩
theorem Sg.uniq {P P' : Int → Prop} (e : ∀ w, P w ↔ P' w) {r r' : Int} (h : Sg P r) (h' : Sg P' r') (g : 0 ≤ r) (g' : 0 ≤ r') : r = r' := by
  obtain ⟨a1, a2⟩ := h
  obtain ⟨b1, b2⟩ := h'
  have x1 : r ≤ r' := by
    rcases a2 with a2 | ⟨w, w', c, d⟩
    · omega
    · have := b1 w w' (c.cg e); omega
  have x2 : r' ≤ r := by
    rcases b2 with b2 | ⟨w, w', c, d⟩
    · omega
    · have := a1 w w' (c.cg (fun w => (e w).symm)); omega
  omega
theorem Sg.add {P P' : Int → Prop} {r l x : Int} (h : Sg P r) (hl : P l) (hm : ∀ w, P w → w ≤ l) (hx : l ≤ x) (hP : ∀ w, P' w ↔ (P w ∨ w = x)) : Sg P' (max r (x - l)) := by
  obtain ⟨a1, a2⟩ := h
  constructor
  · intro w w' ⟨c1, c2, c3, c4⟩
    have pw : P w := by
      rcases (hP w).mp c1 with q | q
      · exact q
      · rcases (hP w').mp c2 with q' | q'
        · have := hm w' q'; omega
        · omega
    have wl := hm w pw
    have c4' : ∀ u, w < u → u < w' → ¬ P u := fun u u1 u2 u3 => c4 u u1 u2 ((hP u).mpr (Or.inl u3))
    rcases (hP w').mp c2 with q' | q'
    · have := a1 w w' ⟨pw, q', c3, c4'⟩; omega
    · by_cases d : w = l
      · omega
      · by_cases z : l < x
        · exact absurd hl (c4' l (by omega) (by omega))
        · have e : w' = l := by omega
          have := a1 w w' ⟨pw, by rw [e]; exact hl, c3, c4'⟩; omega
  · by_cases c : x - l ≤ r
    · rcases a2 with a2 | ⟨w, w', ⟨c1, c2, c3, c4⟩, d⟩
      · left; omega
      · right
        refine ⟨w, w', ⟨(hP w).mpr (Or.inl c1), (hP w').mpr (Or.inl c2), c3, fun u u1 u2 u3 => ?_⟩, by omega⟩
        rcases (hP u).mp u3 with v | v
        · exact c4 u u1 u2 v
        · have := hm w' c2; omega
    · by_cases z : l < x
      · right
        refine ⟨l, x, ⟨(hP l).mpr (Or.inl hl), (hP x).mpr (Or.inr rfl), z, fun u u1 u2 u3 => ?_⟩, by omega⟩
        rcases (hP u).mp u3 with v | v
        · have := hm u v; omega
        · omega
      · left; omega
theorem Sg.cg {P P' : Int → Prop} (e : ∀ w, P w ↔ P' w) {r : Int} (h : Sg P r) : Sg P' r := by
  obtain ⟨a1, a2⟩ := h
  refine ⟨fun w w' c => a1 w w' (c.cg (fun w => (e w).symm)), ?_⟩
  rcases a2 with a2 | ⟨w, w', c, d⟩
  · exact Or.inl a2
  · exact Or.inr ⟨w, w', c.cg e, d⟩
theorem Sg.one {P : Int → Prop} {l : Int} (h : ∀ w, P w → w = l) {r : Int} (g : r ≤ 0) : Sg P r := ⟨fun w w' c => by have := h w c.1; have := h w' c.2.1; have := c.2.2.1; omega, Or.inl g⟩
/-- how many dents of a post there are in the thousand minutes, among the first -/
def kn (q t : Nat → Int) (p : Int) : Nat → Nat
  | 0 => 0
  | i + 1 => kn q t p i + if q i = p ∧ t i ≤ 999 then 1 else 0
theorem kn_le (q t : Nat → Int) (p : Int) : ∀ i, kn q t p i ≤ i := by
  intro i
  induction i with
  | zero => exact Nat.le_refl _
  | succ i ih => unfold kn; split <;> omega
theorem kn_mono (q t : Nat → Int) (p : Int) (i : Nat) : ∀ d, kn q t p i ≤ kn q t p (i + d) := by
  intro d
  induction d with
  | zero => exact Nat.le_refl _
  | succ d ih => rw [show i + (d + 1) = (i + d) + 1 by omega, kn]; omega
theorem kn_ex (q t : Nat → Int) (p : Int) : ∀ i j, j < kn q t p i → ∃ i', i' < i ∧ q i' = p ∧ t i' ≤ 999 ∧ kn q t p i' = j := by
  intro i
  induction i with
  | zero => intro j h; exact absurd h (by unfold kn; omega)
  | succ i ih =>
    intro j h
    rw [kn] at h
    by_cases c : j < kn q t p i
    · obtain ⟨i', a, b⟩ := ih j c
      exact ⟨i', by omega, b⟩
    · by_cases d : q i = p ∧ t i ≤ 999
      · rw [if_pos d] at h
        exact ⟨i, by omega, d.1, d.2, by omega⟩
      · rw [if_neg d] at h; omega
theorem kn_lt {q t : Nat → Int} {p : Int} {i D : Nat} (h : i < D) (h1 : q i = p) (h2 : t i ≤ 999) : kn q t p i < kn q t p D := by
  have := kn_mono q t p (i + 1) (D - (i + 1))
  rw [show i + 1 + (D - (i + 1)) = D by omega, kn, if_pos ⟨h1, h2⟩] at this
  omega
/-- the list of a post's dents, in order -/
def MineL (D : Nat) (q t : Nat → Int) (p : Int) (f : Nat → Int) : Prop := ∀ i, i < D → q i = p → t i ≤ 999 → f (kn q t p i) = t i
theorem MineL.sorted {D : Nat} {q t : Nat → Int} {p : Int} {f : Nat → Int} (h : MineL D q t p f) (hs : ∀ i j, i ≤ j → j < D → t i ≤ t j) : ∀ i j, i ≤ j → j < kn q t p D → f i ≤ f j := by
  intro i j hij hj
  obtain ⟨a, a1, a2, a3, a4⟩ := kn_ex q t p D i (by omega)
  obtain ⟨b, b1, b2, b3, b4⟩ := kn_ex q t p D j hj
  have e1 := h a a1 a2 a3
  have e2 := h b b1 b2 b3
  rw [a4] at e1
  rw [b4] at e2
  rw [e1, e2]
  by_cases c : a ≤ b
  · exact hs a b c b1
  · have := kn_lt (D := a) (show b < a by omega) b2 b3
    have : i = j := by omega
    subst this
    rw [← e1, ← e2]; exact Int.le_refl _
/-- the dents met: of the first from a0 to a, of the second to b -/
def Pd (a0 : Nat) (o : Int) (f : Nat → Int) (a b : Nat) (w : Int) : Prop := (∃ j, a0 ≤ j ∧ j < a ∧ f j = w) ∨ ∃ j, j < b ∧ f j + o = w
theorem Pd.a {a0 a b : Nat} {o : Int} {f : Nat → Int} (h : a0 ≤ a) (w : Int) : Pd a0 o f (a + 1) b w ↔ (Pd a0 o f a b w ∨ w = f a) := by
  constructor
  · rintro (⟨j, j1, j2, j3⟩ | ⟨j, j1, j2⟩)
    · by_cases c : j = a
      · subst c; exact Or.inr j3.symm
      · exact Or.inl (Or.inl ⟨j, j1, by omega, j3⟩)
    · exact Or.inl (Or.inr ⟨j, j1, j2⟩)
  · rintro ((⟨j, j1, j2, j3⟩ | ⟨j, j1, j2⟩) | e)
    · exact Or.inl ⟨j, j1, by omega, j3⟩
    · exact Or.inr ⟨j, j1, j2⟩
    · exact Or.inl ⟨a, h, by omega, e.symm⟩
theorem Pd.b {a0 a b : Nat} {o : Int} {f : Nat → Int} (w : Int) : Pd a0 o f a (b + 1) w ↔ (Pd a0 o f a b w ∨ w = f b + o) := by
  constructor
  · rintro (⟨j, j1, j2, j3⟩ | ⟨j, j1, j2⟩)
    · exact Or.inl (Or.inl ⟨j, j1, j2, j3⟩)
    · by_cases c : j = b
      · subst c; exact Or.inr j2.symm
      · exact Or.inl (Or.inr ⟨j, by omega, j2⟩)
  · rintro ((⟨j, j1, j2, j3⟩ | ⟨j, j1, j2⟩) | e)
    · exact Or.inl ⟨j, j1, j2, j3⟩
    · exact Or.inr ⟨j, by omega, j2⟩
    · exact Or.inr ⟨b, by omega, e.symm⟩
/-- the state of the merge: c dents met -/
def Iv (P : Int → Prop) (c : Nat) (last most : Int) : Prop := Sg P most ∧ (-2 ≤ most ∧ most ≤ 2000 ∧ -1 ≤ last ∧ last ≤ 999) ∧ (c = 0 → last = -1) ∧ (c ≤ 1 → most = -2) ∧ (2 ≤ c → 0 ≤ most) ∧ (1 ≤ c → 0 ≤ last ∧ P last) ∧ ∀ w, P w → w ≤ last
theorem Iv.add {P P' : Int → Prop} {c : Nat} {last most x : Int} (h : Iv P c last most) (hx : last ≤ x ∧ 0 ≤ x ∧ x ≤ 999) (hP : ∀ w, P' w ↔ (P w ∨ w = x)) (h0 : c = 0 → ∀ w, ¬ P w) : Iv P' (c + 1) x (if last < 0 then most else max most (x - last)) := by
  obtain ⟨h1, h2, h3, h4, h5, h6, h7⟩ := h
  have px : P' x := (hP x).mpr (Or.inr rfl)
  have up : ∀ w, P' w → w ≤ x := fun w hw => by
    rcases (hP w).mp hw with z | z
    · have := h7 w z; omega
    · omega
  by_cases c0 : c = 0
  · have l1 := h3 c0
    rw [if_pos (by omega)]
    have m2 := h4 (by omega)
    exact ⟨Sg.one (l := x) (fun w hw => by
      rcases (hP w).mp hw with z | z
      · exact absurd z (h0 c0 w)
      · exact z) (by omega), by omega, by omega, by omega, by omega, fun _ => ⟨by omega, px⟩, up⟩
  · obtain ⟨l0, pl⟩ := h6 (by omega)
    rw [if_neg (by omega)]
    refine ⟨h1.add pl h7 hx.1 hP, by omega, by omega, by omega, fun _ => by omega, fun _ => ⟨by omega, px⟩, up⟩
/-- so many of the list are at or behind o, and so many can be moved by o -/
def KK (q t : Nat → Int) (p o : Int) : Nat → Nat
  | 0 => 0
  | i + 1 => KK q t p o i + (if q i = p ∧ t i ≤ 999 ∧ o ≤ t i then 1 else 0) + if q i = p ∧ t i + o ≤ 999 then 1 else 0
theorem KK_eq {D : Nat} {q t : Nat → Int} {p o : Int} (ho : 0 ≤ o) {f : Nat → Int} (h : MineL D q t p f) (hs : ∀ i j, i ≤ j → j < kn q t p D → f i ≤ f j) {a0 b : Nat} (ha : ∀ j, j < a0 → f j < o) (ha' : a0 < kn q t p D → o ≤ f a0) (hb : ∀ j, j < b → f j + o ≤ 999) (hb' : b < kn q t p D → 999 < f b + o) : ∀ i, i ≤ D → KK q t p o i = (kn q t p i - min (kn q t p i) a0) + min (kn q t p i) b := by
  intro i
  induction i with
  | zero => intro _; unfold KK kn; omega
  | succ i ih =>
    intro hi
    have e := ih (by omega)
    rw [KK, kn, e]
    by_cases c : q i = p ∧ t i ≤ 999
    · have fi := h i (by omega) c.1 c.2
      have lt := kn_lt (show i < D by omega) c.1 c.2
      have x1 : o ≤ t i ↔ a0 ≤ kn q t p i := by
        constructor
        · intro z
          by_cases y : a0 ≤ kn q t p i
          · exact y
          · have := ha (kn q t p i) (by omega); omega
        · intro z
          have := hs a0 (kn q t p i) z lt
          have := ha' (by omega)
          omega
      have x2 : t i + o ≤ 999 ↔ kn q t p i < b := by
        constructor
        · intro z
          by_cases y : kn q t p i < b
          · exact y
          · have := hs b (kn q t p i) (by omega) lt
            have := hb' (by omega)
            omega
        · intro z
          have := hb _ z
          omega
      rw [if_pos c]
      by_cases y1 : a0 ≤ kn q t p i
      · rw [if_pos ⟨c.1, c.2, x1.mpr y1⟩]
        by_cases y2 : kn q t p i < b
        · rw [if_pos ⟨c.1, x2.mpr y2⟩]; omega
        · rw [if_neg (fun z => y2 (x2.mp z.2))]; omega
      · rw [if_neg (fun z => y1 (x1.mp z.2.2))]
        by_cases y2 : kn q t p i < b
        · rw [if_pos ⟨c.1, x2.mpr y2⟩]; omega
        · rw [if_neg (fun z => y2 (x2.mp z.2))]; omega
    · rw [if_neg c, if_neg (fun z => c ⟨z.1, z.2.1⟩), if_neg (fun z => c ⟨z.1, by have := z.2; omega⟩)]; omega
