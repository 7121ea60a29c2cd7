/-! PLAIN LAW: posts off a row. Own text. -/
set_option maxRecDepth 100000
abbrev lz (a : Int) : Int64 := Int64.ofInt a
theorem lz_toInt {a : Int} (h : -9223372036854775808 ≤ a ∧ a ≤ 9223372036854775807) : (lz a).toInt = a := Int64.toInt_ofInt_of_le (by omega) (by omega)
theorem lz_iz {a : Int} (h : -2147483648 ≤ a ∧ a ≤ 2147483647) : (iz a).toInt64 = lz a := Int32.toInt64_ofInt (by show -2147483648 ≤ a; omega) (by show a ≤ 2147483647; omega)
theorem lz_add (a b : Int) : lz a + lz b = lz (a + b) := (Int64.ofInt_add a b).symm
theorem lz_mul (a b : Int) : lz a * lz b = lz (a * b) := (Int64.ofInt_mul a b).symm
theorem lz_lt {a b : Int} (h : (-9223372036854775808 ≤ a ∧ a ≤ 9223372036854775807) ∧ -9223372036854775808 ≤ b ∧ b ≤ 9223372036854775807) : lz a < lz b ↔ a < b := by rw [Int64.lt_iff_toInt_lt, lz_toInt h.1, lz_toInt h.2]
theorem lz_i (a : Int) : (lz a).toInt32 = iz a := Int64.toInt32_ofInt
theorem b2PE {α β : Type} {x : Option (α × β)} {a : α} {b : β} {f : α → β → Prop} (h : x = some (a, b)) (k : f a b) : b2P x f := by rw [h]; exact ⟨a, b, rfl, k⟩
theorem posts_l {s a b : Nat} {z : XO} {c t : Int} (hs : s < 6) (hc : -2147483648 ≤ c ∧ c ≤ 2147483647) (ht : t ≤ 9 ∧ -2147483648 ≤ t) (N : Nat) : ∀ (n i k : Nat) (M : MS), k ≤ 9 → mi M 0 = k → ma M 42 s = z.2.2.2.1 → z.2.2.2.1 ≤ 60 → (∀ j, j < z.2.2.2.1 → rAt 23 z j = M.2.2 (60 * s + j)) → (0 < i → 0 ≤ c ∧ c + 3 * i ≤ 60) → (i : Int) ≤ t → t - i < n → ∃ v M', m_posts_b49 N (iz s) (iz c) (iz t) n M (iz i) (iz i) = some (v, M') ∧ ∀ (X : XS) (m : Nat), R X M → X.2.2.1 48 s = some a → rowZ X a 23 = some (b, z) → 25 ≤ m + k → x_posts_b36 (fun v' X' => v' = v ∧ R X' M') N (iz c) (iz t) a n m X (iz i) (iz i) := by
  intro n
  induction n with
  | zero =>
    intro i k M k9 hk h42 h60 hzz hi i9 hf
    omega
  | succ n ih =>
    intro i k M k9 hk h42 h60 hzz hi i9 hf
    rw [m_posts_b49]
    by_cases c1 : t ≤ i
    · exact ⟨_, _, iteTE ((iz_le (by omega)).mpr c1) rfl, fun X m hR ha hz hm => by unfold x_posts_b36; exact iteT ((iz_le (by omega)).mpr c1) ⟨rfl, hR⟩⟩
    have c1x : ¬ iz t ≤ iz i := fun q => c1 ((iz_le (by omega)).mp q)
    have b9 : ∀ {X : XS}, R X M → ((9 ≤ X.1 1) ↔ 9 ≤ k) := fun hR => by rw [hR.1.1.1, hk, show (9 : Int32) = iz 9 from rfl, iz_le (by omega)]; omega
    have b9m : (M.1 0 = 9) ↔ 9 ≤ k := by rw [mi_eq, hk, show (9 : Int32) = iz 9 from rfl, iz_eq (by omega)]; omega
    have x1 : (iz c).toInt64 + 3 * (iz i).toInt64 = lz (c + 3 * i) := by rw [lz_iz hc, lz_iz (by omega), show (3 : Int64) = lz 3 from rfl, lz_mul, lz_add]
    have d0 : (lg_cmp (lz (c + 3 * i)) 0 < 0) ↔ c + 3 * i < 0 := by rw [lg_cmp_lt, show (0 : Int64) = lz 0 from rfl, lz_lt (by omega)]
    have e42 : M.2.1 42 (iz s).toNatClampNeg = iz z.2.2.2.1 := by rw [iz_clampN (by omega), ma_eq, h42]
    have d3 : (0 < lg_cmp (lz (c + 3 * i) + 3) (M.2.1 42 (iz s).toNatClampNeg).toInt64) ↔ z.2.2.2.1 < c + 3 * i + 3 := by
      rw [lg_cmp_gt, e42, lz_iz (by omega), show (3 : Int64) = lz 3 from rfl, lz_add, lz_lt (by omega)]
    simp only [nm_eq]
    rw [x1]
    have stop : (9 ≤ k ∨ c + 3 * i < 0 ∨ z.2.2.2.1 < c + 3 * i + 3) → ∀ K : Option (Int32 × MS), (if iz t ≤ iz i then some (iz i, M) else if lg_cmp (lz (c + 3 * i)) 0 < 0 then some (iz i, M) else chk 6 (iz s) (if 0 < lg_cmp (lz (c + 3 * i) + 3) (M.2.1 42 (iz s).toNatClampNeg).toInt64 then some (iz i, M) else if M.1 0 = 9 then some (iz i, M) else K)) = some (iz i, M) := by
      intro q K
      refine iteFE c1x ?_
      by_cases q1 : c + 3 * i < 0
      · exact iteTE (d0.mpr q1) rfl
      refine iteFE (fun q => q1 (d0.mp q)) (chkE rfl (by omega) ?_)
      by_cases q2 : z.2.2.2.1 < c + 3 * i + 3
      · exact iteTE (d3.mpr q2) rfl
      exact iteFE (fun q => q2 (d3.mp q)) (iteTE (b9m.mpr (by omega)) rfl)
    by_cases c2 : 9 ≤ k
    · exact ⟨_, _, stop (Or.inl c2) _, fun X m hR ha hz hm => by unfold x_posts_b36; exact iteF c1x (iteT ((b9 hR).mpr c2) ⟨rfl, hR⟩)⟩
    have ex : iz c + 3 * iz i = iz (c + 3 * i) := by rw [show (3 : Int32) = iz 3 from rfl, iz_mul, iz_add]
    have ex1 : iz (c + 3 * i) + 1 = iz (c + 3 * i + 1) := by rw [show (1 : Int32) = iz 1 from rfl, iz_add]
    have ex2 : iz (c + 3 * i) + 2 = iz (c + 3 * i + 2) := by rw [show (2 : Int32) = iz 2 from rfl, iz_add]
    have rng : -2147483648 ≤ c + 3 * i ∧ c + 3 * i ≤ 2147483647 := by
      by_cases i0 : i = 0
      · subst i0; omega
      · have := hi (by omega); omega
    have outT : ∀ e : Int, -2147483648 ≤ e ∧ e ≤ 2147483647 → (e < 0 ∨ z.2.2.2.1 ≤ e) → (iz e < 0 ∨ z.2.2.2.1 ≤ (iz e).toNatClampNeg) := by
      intro e he q
      by_cases n : e < 0
      · left; rw [show (0 : Int32) = iz 0 from rfl, iz_lt (by omega)]; exact n
      · right; rw [iz_clamp he]; omega
    have outF : ∀ e : Int, -2147483648 ≤ e ∧ e ≤ 2147483647 → (0 ≤ e ∧ e < z.2.2.2.1) → ¬ (iz e < 0 ∨ z.2.2.2.1 ≤ (iz e).toNatClampNeg) := by
      intro e he q
      rw [show (0 : Int32) = iz 0 from rfl, iz_lt (by omega), iz_clamp he]; omega
    have lt31 : z.2.2.2.1 < 2147483648 := by omega
    by_cases c3 : c + 3 * i < 0 ∨ z.2.2.2.1 < c + 3 * i + 3
    · refine ⟨_, _, stop (Or.inr c3) _, fun X m hR ha hz hm => ?_⟩
      unfold x_posts_b36
      simp only [nmP_eq]
      rw [ex, ex1, ex2]
      refine iteF c1x (iteF (fun q => c2 ((b9 hR).mp q)) ?_)
      by_cases o1 : c + 3 * i < 0 ∨ z.2.2.2.1 ≤ c + 3 * i
      · exact b2PE hz (iteT (outT _ rng o1) (iteT lt31 ⟨m - 16, by omega, trivial, hR⟩))
      refine b2PE hz (iteF (outF _ rng (by omega)) ?_)
      by_cases o2 : z.2.2.2.1 ≤ c + 3 * i + 1
      · exact b2PE hz (iteT (outT _ (by omega) (Or.inr o2)) (iteT lt31 ⟨m - 16, by omega, trivial, hR⟩))
      refine b2PE hz (iteF (outF _ (by omega) (by omega)) ?_)
      exact b2PE hz (iteT (outT _ (by omega) (by omega)) (iteT lt31 ⟨m - 16, by omega, trivial, hR⟩))
    obtain ⟨e, he⟩ : ∃ e : Nat, c + 3 * i = e := ⟨(c + 3 * i).toNat, by omega⟩
    obtain ⟨vx, hvx, ix⟩ := izE (M.2.2 (60 * s + e)).toInt32
    obtain ⟨vy, hvy, iy⟩ := izE (M.2.2 (60 * s + (e + 1))).toInt32
    obtain ⟨vv, hvv, iv⟩ := izE (M.2.2 (60 * s + (e + 2))).toInt32
    have rx : (rAt 23 z (iz (c + 3 * i)).toNatClampNeg).toInt32 = iz vx := by rw [he, iz_clampN (by omega), hzz e (by omega), ix]
    have ry : (rAt 23 z (iz (c + 3 * i + 1)).toNatClampNeg).toInt32 = iz vy := by rw [show c + 3 * i + 1 = ((e + 1 : Nat) : Int) by omega, iz_clampN (by omega), hzz (e + 1) (by omega), iy]
    have rv : (rAt 23 z (iz (c + 3 * i + 2)).toNatClampNeg).toInt32 = iz vv := by rw [show c + 3 * i + 2 = ((e + 2 : Nat) : Int) by omega, iz_clampN (by omega), hzz (e + 2) (by omega), iv]
    have m3 : 60 * iz s + (lz (c + 3 * i)).toInt32 = iz ((60 * s + e : Nat) : Int) := by rw [lz_i, show (60 : Int32) = iz 60 from rfl, iz_mul, iz_add]; congr 1; omega
    have m31 : iz ((60 * s + e : Nat) : Int) + 1 = iz ((60 * s + (e + 1) : Nat) : Int) := by rw [show (1 : Int32) = iz 1 from rfl, iz_add]; congr 1
    have m32 : iz ((60 * s + e : Nat) : Int) + 2 = iz ((60 * s + (e + 2) : Nat) : Int) := by rw [show (2 : Int32) = iz 2 from rfl, iz_add]; congr 1
    have cx : m_within (iz vx) 0 15 = some (decide (0 ≤ vx ∧ vx ≤ 15)) := by rw [show (0 : Int32) = iz 0 from rfl, show (15 : Int32) = iz 15 from rfl, m_within_iz (by omega)]
    have cy : m_within (iz vy) 0 15 = some (decide (0 ≤ vy ∧ vy ≤ 15)) := by rw [show (0 : Int32) = iz 0 from rfl, show (15 : Int32) = iz 15 from rfl, m_within_iz (by omega)]
    have cv : m_within (iz vv) 0 9 = some (decide (0 ≤ vv ∧ vv ≤ 9)) := by rw [show (0 : Int32) = iz 0 from rfl, show (9 : Int32) = iz 9 from rfl, m_within_iz (by omega)]
    rw [m3, m31, m32, iz_clampN (n := 60 * s + e) (by omega), iz_clampN (n := 60 * s + (e + 1)) (by omega), iz_clampN (n := 60 * s + (e + 2)) (by omega), ix, iy, iv]
    have hX1 : x_isCell (rAt 23 z (iz (c + 3 * i)).toNatClampNeg).toInt32 = some (decide (0 ≤ vx ∧ vx ≤ 15)) := by rw [rx]; exact x_isCell_iz hvx
    have hY1 : x_isCell (rAt 23 z (iz (c + 3 * i + 1)).toNatClampNeg).toInt32 = some (decide (0 ≤ vy ∧ vy ≤ 15)) := by rw [ry]; exact x_isCell_iz hvy
    have go : ∀ (K : Option (Int32 × MS)) (r : Option (Int32 × MS)), K = r → (if iz t ≤ iz i then some (iz i, M) else if lg_cmp (lz (c + 3 * i)) 0 < 0 then some (iz i, M) else chk 6 (iz s) (if 0 < lg_cmp (lz (c + 3 * i) + 3) (M.2.1 42 (iz s).toNatClampNeg).toInt64 then some (iz i, M) else if M.1 0 = 9 then some (iz i, M) else chk 360 (iz ((60 * s + e : Nat) : Int)) K)) = r :=
      fun K r hr => iteFE c1x (iteFE (fun q => c3 (Or.inl (d0.mp q))) (chkE rfl (by omega) (iteFE (fun q => c3 (Or.inr (d3.mp q))) (iteFE (fun q => c2 (b9m.mp q)) (chkE rfl (by omega) hr)))))
    by_cases cX : ¬ (0 ≤ vx ∧ vx ≤ 15)
    · refine ⟨iz i, M, go _ _ (bindE cx (iteTE (by rw [decide_eq_false cX]; rfl) rfl)), fun X m hR ha hz hm => by unfold x_posts_b36; simp only [nmP_eq]; rw [ex, ex1, ex2]; exact iteF c1x (iteF (fun q => c2 ((b9 hR).mp q)) (b2PE hz (iteF (outF _ rng (by omega)) (b2PE hz (iteF (outF _ (by omega) (by omega)) (b2PE hz (iteF (outF _ (by omega) (by omega)) (bindP_eq hX1 (iteT (by rw [decide_eq_false cX]; rfl) ⟨trivial, hR⟩)))))))))⟩
    replace cX := Decidable.not_not.mp cX
    by_cases cY : ¬ (0 ≤ vy ∧ vy ≤ 15)
    · refine ⟨iz i, M, go _ _ (bindE cx (iteFE (by rw [decide_eq_true cX]; exact b2iT) (chkE rfl (by omega) (bindE cy (iteTE (by rw [decide_eq_false cY]; rfl) rfl))))), fun X m hR ha hz hm => by unfold x_posts_b36; simp only [nmP_eq]; rw [ex, ex1, ex2]; exact iteF c1x (iteF (fun q => c2 ((b9 hR).mp q)) (b2PE hz (iteF (outF _ rng (by omega)) (b2PE hz (iteF (outF _ (by omega) (by omega)) (b2PE hz (iteF (outF _ (by omega) (by omega)) (bindP_eq hX1 (iteF (by rw [decide_eq_true cX]; exact b2iT) (bindP_eq hY1 (iteT (by rw [decide_eq_false cY]; rfl) ⟨trivial, hR⟩)))))))))))⟩
    replace cY := Decidable.not_not.mp cY
    have cv' : x_in (rAt 23 z (iz (c + 3 * i + 2)).toNatClampNeg).toInt32 0 9 = some (decide (0 ≤ vv ∧ vv ≤ 9)) := by rw [rv]; exact cv
    by_cases cV : ¬ (0 ≤ vv ∧ vv ≤ 9)
    · refine ⟨iz i, M, go _ _ (bindE cx (iteFE (by rw [decide_eq_true cX]; exact b2iT) (chkE rfl (by omega) (bindE cy (iteFE (by rw [decide_eq_true cY]; exact b2iT) (chkE rfl (by omega) (bindE cv (iteTE (by rw [decide_eq_false cV]; rfl) rfl)))))))), fun X m hR ha hz hm => by unfold x_posts_b36; simp only [nmP_eq]; rw [ex, ex1, ex2]; exact iteF c1x (iteF (fun q => c2 ((b9 hR).mp q)) (b2PE hz (iteF (outF _ rng (by omega)) (b2PE hz (iteF (outF _ (by omega) (by omega)) (b2PE hz (iteF (outF _ (by omega) (by omega)) (bindP_eq hX1 (iteF (by rw [decide_eq_true cX]; exact b2iT) (bindP_eq hY1 (iteF (by rw [decide_eq_true cY]; exact b2iT) (bindP_eq cv' (iteT (by rw [decide_eq_false cV]; rfl) ⟨trivial, hR⟩)))))))))))))⟩
    replace cV := Decidable.not_not.mp cV
    obtain ⟨M', g, gm⟩ := m_newPost_iz hk (by omega) cX cY cV
    have l42 : ∀ j, ma M' 42 j = ma M 42 j := ma_cg (gm.2.2.2.2.2.2.2.1 42 (by decide) (by decide) (by decide) (by decide) (by decide))
    have ni : iz i + 1 = iz ((i + 1 : Nat) : Int) := by rw [show (1 : Int32) = iz 1 from rfl, iz_add]; rfl
    have key : ∀ (X : XS) (hR : R X M) q, X.2.2.2 q = none → R (xO (xI (xR (xO X q (mkO 3 [iz vx, iz vy, 1, 60] [])) 0 k (some q)) 1 (iz ((k : Int) + 1))) q (oI (mkO 3 [iz vx, iz vy, 1, 60] []) 2 (iz vv))) M' := by
      intro X hR q hq
      obtain ⟨g0, g1, g2, g3, g4, g5, g6, g7, g8⟩ := gm
      refine R_newPost hR hk (by omega) hq (o := oI (mkO 3 [iz vx, iz vy, 1, 60] []) 2 (iz vv)) (x := vx) (y := vy) (v := vv) rfl rfl rfl rfl rfl rfl cX cY cV rfl (fun j hj => ?_) rfl (fun j => ?_) (fun r hr => ?_) (fun b => ?_) g0 g1 g2 g3 g4 g5 g6 g7 g8
      · show (xI _ 1 _).1 j = _
        rw [xI1, if_neg hj]; rfl
      · show (xR (xO X q (mkO 3 [iz vx, iz vy, 1, 60] [])) 0 k (some q)).2.2.1 0 j = _
        rw [xR22, if_pos rfl]; rfl
      · funext j
        show (xR (xO X q (mkO 3 [iz vx, iz vy, 1, 60] [])) 0 k (some q)).2.2.1 r j = _
        rw [xR22, if_neg hr]; rfl
      · rw [xO23]
        by_cases cb : b = q
        · rw [if_pos cb, if_pos cb]
        · rw [if_neg cb, if_neg cb]
          show (xO X q (mkO 3 [iz vx, iz vy, 1, 60] [])).2.2.2 b = _
          rw [xO23, if_neg cb]
    have kp : ∀ (X : XS) q, X.2.2.2 q = none → ∀ (c : Nat) (o : XO), X.2.2.2 c = some o → (xO (xI (xR (xO X q (mkO 3 [iz vx, iz vy, 1, 60] [])) 0 k (some q)) 1 (iz ((k : Int) + 1))) q (oI (mkO 3 [iz vx, iz vy, 1, 60] []) 2 (iz vv))).2.2.2 c = some o := by
      intro X q hq c o hc
      have cq : c ≠ q := fun e => by subst e; rw [hq] at hc; cases hc
      rw [xO23, if_neg cq]
      show (xO X q (mkO 3 [iz vx, iz vy, 1, 60] [])).2.2.2 c = _
      rw [xO23, if_neg cq, hc]
    obtain ⟨v, M'', r1, r2⟩ := ih (i + 1) (k + 1) M' (by omega) (by rw [gm.1]; rfl) (by rw [l42, h42]) h60 (fun j hj => by rw [gm.2.2.2.2.2.2.2.2]; exact hzz j hj) (fun _ => by omega) (by omega) (by omega)
    refine ⟨v, M'', go _ _ (bindE cx (iteFE (by rw [decide_eq_true cX]; exact b2iT) (chkE rfl (by omega) (bindE cy (iteFE (by rw [decide_eq_true cY]; exact b2iT) (chkE rfl (by omega) (bindE cv (iteFE (by rw [decide_eq_true cV]; exact b2iT) (chkE rfl (by omega) (chkE rfl (by omega) (chkE rfl (by omega) (b2E g ?_)))))))))))), fun X m hR ha hz hm => ?_⟩
    · rw [ni]
      exact r1
    · unfold x_posts_b36
      simp only [nmP_eq]
      rw [ex, ex1, ex2]
      refine iteF c1x (iteF (fun q => c2 ((b9 hR).mp q)) (b2PE hz (iteF (outF _ rng (by omega)) (b2PE hz (iteF (outF _ (by omega) (by omega)) (b2PE hz (iteF (outF _ (by omega) (by omega)) (bindP_eq hX1 (iteF (by rw [decide_eq_true cX]; exact b2iT) (bindP_eq hY1 (iteF (by rw [decide_eq_true cY]; exact b2iT) (bindP_eq cv' (iteF (by rw [decide_eq_true cV]; exact b2iT) ⟨1, m - 1, by omega, ?_⟩)))))))))))))
      rw [rx, ry, rv]
      refine addPost_iz hR hk (by omega) cX cY 0 _ fun q hq => ?_
      refine bindP_eq rfl (bindP_eq (getO_eq (xO_at _ _ _) rfl) ?_)
      rw [ni]
      exact r2 _ (m - 1) (key X hR q hq) ha (rowZ.cg (fun c o g _ => kp X q hq c o g) (by omega) hz) (by omega)
theorem law_posts {X : XS} {M : MS} (h : R X M) {N : Nat} (hN : 100 ≤ N) (p w v : Int32) : sameP (fun Q => x_posts Q N 1000 X p w v) (m_posts N M p w v) := by
  have hR := h
  obtain ⟨z, hz, rfl⟩ := izE p
  obtain ⟨c0, hc0, rfl⟩ := izE w
  obtain ⟨t, ht, rfl⟩ := izE v
  unfold sameP x_posts m_posts
  by_cases c : ¬ (0 ≤ z ∧ z ≤ 5)
  · exact ⟨_, _, bindE (shelfF hz c) (iteTE rfl rfl), bindP_eq (shelfF hz c) (iteT rfl ⟨rfl, hR⟩)⟩
  replace c := Decidable.not_not.mp c
  have w1 : x_in (iz t) 1 9 = some (decide (1 ≤ t ∧ t ≤ 9)) := by rw [show (1 : Int32) = iz 1 from rfl, show (9 : Int32) = iz 9 from rfl, x_in_iz (by omega)]
  have w2 : m_within (iz t) 1 9 = some (decide (1 ≤ t ∧ t ≤ 9)) := w1
  by_cases ct : ¬ (1 ≤ t ∧ t ≤ 9)
  · rw [decide_eq_false ct] at w1 w2
    exact ⟨_, _, bindE (shelfT c) (iteFE b2iT (bindE w2 (iteTE rfl rfl))), bindP_eq (shelfT c) (iteF b2iT (bindP_eq w1 (iteT rfl ⟨rfl, hR⟩)))⟩
  replace ct := Decidable.not_not.mp ct
  rw [decide_eq_true ct] at w1 w2
  have h9 := h.2.2.2.2.2.2.2.2
  have h8 := h.2.2.2.2.2.2.2.1
  have k9 := h.1.1.2
  have e1 := h9.1 z.toNat (by omega)
  have ez : (iz z).toNatClampNeg = z.toNat := iz_clamp (by omega)
  have r41 := ma_R M 41 z.toNat
  obtain ⟨k, hk⟩ : ∃ k : Nat, mi M 0 = k := ⟨(mi M 0).toNat, by omega⟩
  obtain ⟨s, rfl⟩ : ∃ s : Nat, z = s := ⟨z.toNat, by omega⟩
  rw [Int.toNat_natCast] at e1 ez r41
  have out : ∀ (P : Prop), P → chkP 6 (iz s) P := fun P hP => chkP_ok (by omega) (by decide) hP
  by_cases d : ma M 41 s = -1
  · refine ⟨iz 0, M, bindE (shelfT c) (iteFE b2iT (bindE w2 (iteFE b2iT (chkE rfl (by omega) (iteTE ?_ rfl))))), bindP_eq (shelfT c) (iteF b2iT (bindP_eq w1 (iteF b2iT (out _ ?_))))⟩
    · rw [ez, ma_eq M 41, d]; rfl
    · rw [ez]
      have e2 : X.2.2.1 48 s = none := by
        rcases e1 with ⟨-, q⟩ | ⟨b, q, -⟩ | ⟨k, a, b, y, q1, q2, -⟩
        · exact q
        · omega
        · omega
      rw [e2]
      refine Or.inl ⟨rfl, ?_⟩
      split
      · exact ⟨rfl, hR⟩
      · split
        · exact ⟨rfl, hR⟩
        · exact ⟨999, rfl, rfl, hR⟩
  have d' : ¬ M.2.1 41 (iz s).toNatClampNeg = -1 := by rw [ez, ma_eq M 41, show (-1 : Int32) = iz (-1) from rfl, iz_eq (by omega)]; exact d
  have onlPS : ∀ (a : Nat) (A : Prop) (B : Nat → Prop), X.2.2.1 48 s = some a → B a → onlP (X.2.2.1 48 (iz s).toNatClampNeg) A B := fun a A B h1 h2 => by rw [ez, h1]; exact Or.inr ⟨a, rfl, h2⟩
  by_cases d0 : ma M 41 s = 0
  · obtain ⟨a, b, y, g1, g2, g3, g4, g5⟩ := e1.row (h := 0) d0 (by omega)
    obtain ⟨x, x1, x2, -⟩ := rowZ_ex g2
    obtain ⟨v, M', r1, r2⟩ := posts_l (s := s) (a := a) (b := b) (z := y) (by omega) hc0 (t := t) (by omega) N N 0 k M (by omega) hk g3 g4 g5 (fun q => absurd q (by omega)) (by omega) (by omega)
    refine ⟨v, M', bindE (shelfT c) (iteFE b2iT (bindE w2 (iteFE b2iT (chkE rfl (by omega) (iteFE d' (chkE rfl (by omega) (iteTE ?_ r1))))))), bindP_eq (shelfT c) (iteF b2iT (bindP_eq w1 (iteF b2iT (out _ (onlPS a _ _ g1 (bindP_eq x1 (iteT x2 (r2 X 1000 hR g1 g2 (by omega)))))))))⟩
    rw [ez, ma_eq M 41, d0]; rfl
  have d0' : ¬ M.2.1 41 (iz s).toNatClampNeg = 0 := by rw [ez, ma_eq M 41, show (0 : Int32) = iz 0 from rfl, iz_eq (by omega)]; exact d0
  refine ⟨iz (-12), M, bindE (shelfT c) (iteFE b2iT (bindE w2 (iteFE b2iT (chkE rfl (by omega) (iteFE d' (chkE rfl (by omega) (iteFE d0' rfl))))))), ?_⟩
  by_cases d2 : 5 ≤ ma M 41 s
  · obtain ⟨b, k, a, o, q1, q2, q3, q4, q5, q6, q7, q8, q9⟩ := e1.body h8 d2
    refine bindP_eq (shelfT c) (iteF b2iT (bindP_eq w1 (iteF b2iT (out _ (onlPS a _ _ q4 (bindP_eq q5 (iteF (by omega) (iteT ?_ ⟨984, rfl, rfl, hR⟩))))))))
    simp only [List.mem_cons, List.not_mem_nil]; omega
  · obtain ⟨k', k4, hk'⟩ := e1.ge.2 (by omega) (by have := e1.ge.1; omega)
    obtain ⟨a, b, y, g1, g2, g3, g4, g5⟩ := e1.row hk' k4
    obtain ⟨x, x1, x2, -⟩ := rowZ_ex g2
    refine bindP_eq (shelfT c) (iteF b2iT (bindP_eq w1 (iteF b2iT (out _ (onlPS a _ _ g1 (bindP_eq x1 (iteF (by omega) (iteT ?_ ⟨984, rfl, rfl, hR⟩))))))))
    simp only [List.mem_cons, List.not_mem_nil]; omega
