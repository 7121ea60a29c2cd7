/-! PLAIN LAW: the law's reader: what both readers do at a place. Own text. -/
set_option maxRecDepth 100000
def Tape (M : MS) (n : Nat) : Prop := mi M 6 = n ∧ n ≤ 120 ∧ ∀ k : Nat, k < n → 0 ≤ ma M 7 k ∧ ma M 7 k ≤ 255
def ch (M : MS) (n k : Nat) : Int := if k < n then ma M 7 k else -1
def cr (M : MS) (n k : Nat) : Int := if k < n then (if ma M 7 k < 128 then ma M 7 k else ma M 7 k - 256) else -1
theorem ch_R {M : MS} {n : Nat} (ht : Tape M n) (k : Nat) : (-1 ≤ ch M n k ∧ ch M n k ≤ 255) ∧ (-128 ≤ cr M n k ∧ cr M n k ≤ 127) ∧ ((0 ≤ ch M n k ∧ ch M n k < 128) → cr M n k = ch M n k) ∧ ((0 ≤ cr M n k) → cr M n k = ch M n k) ∧ (0 ≤ ch M n k → k < n) := by
  have h := ht.2.2 k
  unfold ch cr
  by_cases c : k < n
  · have h := h c
    rw [if_pos c, if_pos c]
    by_cases d : ma M 7 k < 128
    · rw [if_pos d]; omega
    · rw [if_neg d]; omega
  · rw [if_neg c, if_neg c]; omega
theorem byte_ok : ((List.range 256).all fun v => ((iz (v : Int)).toInt8.toInt32 == iz (if (v : Int) < 128 then (v : Int) else (v : Int) - 256))) = true := by decide +kernel
theorem byte_at {v : Int} (h : 0 ≤ v ∧ v ≤ 255) : (iz v).toInt8.toInt32 = iz (if v < 128 then v else v - 256) := by
  have q := List.all_eq_true.mp byte_ok v.toNat (List.mem_range.mpr (by omega))
  rw [show ((v.toNat : Nat) : Int) = v by omega] at q
  simpa using q
def litC : Nat → List Int
  | 0 => [118, 117, 109, 100, 112, 110]
  | 1 => [42, 47, 37]
  | 2 => [43, 45]
  | _ => [60, 61, 62]
theorem one_ok : ((List.range 4).all fun i => (List.range 256).all fun v => ((if iz ((v : Int) - 128) < 0 then some false else (s_find (rLitB i).length (fun j => (rLitB i).getD j 0) (iz ((v : Int) - 128))).bind fun p => if p < 0 then some false else some true) == some (decide (((v : Int) - 128) ∈ litC i)))) = true := by decide +kernel
theorem one_at {i : Nat} (hi : i < 4) {v : Int} (h : -128 ≤ v ∧ v ≤ 127) : (if iz v < 0 then some false else (s_find (rLitB i).length (fun j => (rLitB i).getD j 0) (iz v)).bind fun p => if p < 0 then some false else some true) = some (decide (v ∈ litC i)) := by
  have q := List.all_eq_true.mp one_ok i (List.mem_range.mpr hi)
  have q := List.all_eq_true.mp q (v + 128).toNat (List.mem_range.mpr (by omega))
  rw [show (((v + 128).toNat : Nat) : Int) - 128 = v by omega] at q
  exact eq_of_beq q
/-! the reference's reader -/
def MRd (M : MS) (n : Nat) (S : MS) (at_ op cd : Nat) : Prop := S.1 6 = iz n ∧ S.2.1 7 = M.2.1 7 ∧ S.1 14 = iz at_ ∧ S.1 15 = iz op ∧ S.1 16 = iz cd ∧ at_ ≤ n ∧ cd ≤ at_ ∧ op ≤ 6
theorem m_sign_iz {M : MS} {n : Nat} (ht : Tape M n) {S : MS} {at_ op cd : Nat} (h : MRd M n S at_ op cd) : m_sign S = some (iz (ch M n at_)) := by
  obtain ⟨h1, h2, h3, h4, h5, h6, h7, h8⟩ := h
  have n120 := ht.2.1
  unfold m_sign
  rw [h1, h3]
  by_cases c : n ≤ at_
  · refine iteTE ((iz_le (by omega)).mpr (by omega)) ?_
    unfold ch
    rw [if_neg (by omega)]; rfl
  · refine iteFE (by rw [iz_le (by omega)]; omega) (chkE rfl (by omega) ?_)
    unfold ch
    rw [if_pos (by omega), iz_clampN (by omega), h2, ma_eq]
theorem m_isT {M : MS} {n : Nat} (ht : Tape M n) {S : MS} {at_ op cd : Nat} (h : MRd M n S at_ op cd) {c : Int} (hc : 0 ≤ c ∧ c ≤ 255) (e : ch M n at_ = c) : m_is S (iz c) = some (true, sI S 14 (iz ((at_ + 1 : Nat) : Int))) := by
  unfold m_is
  refine bindE (m_sign_iz ht h) (iteTE (by rw [e]) ?_)
  rw [nmE, h.2.2.1, show (1 : Int32) = iz 1 from rfl, iz_add]; rfl
theorem m_isF {M : MS} {n : Nat} (ht : Tape M n) {S : MS} {at_ op cd : Nat} (h : MRd M n S at_ op cd) {c : Int} (hc : 0 ≤ c ∧ c ≤ 255) (e : ch M n at_ ≠ c) : m_is S (iz c) = some (false, S) := by
  have := (ch_R ht at_).1
  unfold m_is
  exact bindE (m_sign_iz ht h) (iteFE (by rw [iz_eq (by omega)]; exact e) rfl)
def KP (S S' : MS) : Prop := (∀ k, k ≠ 14 → k ≠ 15 → k ≠ 16 → S'.1 k = S.1 k) ∧ S'.2.2 = S.2.2 ∧ ∀ r, r ≠ 21 → S'.2.1 r = S.2.1 r
theorem KP.rf (S : MS) : KP S S := ⟨fun _ _ _ _ => rfl, rfl, fun _ _ => rfl⟩
theorem KP.tr {S S' S'' : MS} (h : KP S S') (g : KP S' S'') : KP S S'' := ⟨fun k a b c => (g.1 k a b c).trans (h.1 k a b c), g.2.1.trans h.2.1, fun r hr => (g.2.2 r hr).trans (h.2.2 r hr)⟩
theorem KP.set {S S' : MS} (h : KP S S') {k : Nat} (hk : k = 14 ∨ k = 15 ∨ k = 16) (v : Int32) : KP S (sI S' k v) := ⟨fun j a b c => by
  rw [sI1, if_neg (by omega)]; exact h.1 j a b c, h.2.1, h.2.2⟩
theorem KP.put {S S' : MS} (h : KP S S') (j : Nat) (v : Int32) : KP S (sA S' 21 j v) := ⟨h.1, h.2.1, fun r hr => by
  rw [← h.2.2 r hr]; funext i; rw [sA21, if_neg hr]⟩
theorem MRd.mv {M : MS} {n : Nat} {S S' : MS} {at_ op cd at' op' cd' : Nat} (h : MRd M n S at_ op cd) (k : KP S S') (h14 : S'.1 14 = iz at') (h15 : S'.1 15 = iz op') (h16 : S'.1 16 = iz cd') (h1 : at' ≤ n) (h2 : cd' ≤ at') (h3 : op' ≤ 6) : MRd M n S' at' op' cd' :=
  ⟨(k.1 6 (by decide) (by decide) (by decide)).trans h.1, (k.2.2 7 (by decide)).trans h.2.1, h14, h15, h16, h1, h2, h3⟩
/-- codes as they stand -/
def Cds (S S' : MS) (cd : Nat) (c : List Int) : Prop := (∀ k, k < cd → ma S' 21 k = ma S 21 k) ∧ ∀ k, k < c.length → ma S' 21 (cd + k) = c.getD k 0
theorem Cds.nil (S : MS) (cd : Nat) : Cds S S cd [] := ⟨fun _ _ => rfl, fun k hk => absurd hk (by simp)⟩
theorem Cds.app {S S' S'' : MS} {cd : Nat} {c c' : List Int} (h : Cds S S' cd c) (g : Cds S' S'' (cd + c.length) c') : Cds S S'' cd (c ++ c') := by
  refine ⟨fun k hk => (g.1 k (by omega)).trans (h.1 k hk), fun k hk => ?_⟩
  rw [List.length_append] at hk
  by_cases d : k < c.length
  · rw [g.1 _ (by omega), h.2 k d, List.getD_eq_getElem?_getD, List.getD_eq_getElem?_getD, List.getElem?_append_left d]
  · have := g.2 (k - c.length) (by omega)
    rw [show cd + c.length + (k - c.length) = cd + k by omega] at this
    rw [this, List.getD_eq_getElem?_getD, List.getD_eq_getElem?_getD, List.getElem?_append_right (by omega)]
theorem Cds.pre {S0 S S' : MS} {cd : Nat} {c : List Int} (h : Cds S S' cd c) (e : S.2.1 21 = S0.2.1 21) : Cds S0 S' cd c := ⟨fun k hk => by rw [h.1 k hk, ma_cg e], h.2⟩
theorem m_codes_iz {S : MS} {cd : Nat} (h : S.1 16 = iz cd) (hc : cd < 200) {k : Int} (hk : 0 ≤ k ∧ k ≤ 100000) : ∃ S', m_codes S (iz k) = some (true, S') ∧ KP S S' ∧ S'.1 14 = S.1 14 ∧ S'.1 15 = S.1 15 ∧ S'.1 16 = iz ((cd + 1 : Nat) : Int) ∧ Cds S S' cd [k] := by
  refine ⟨sA (sI S 16 (iz ((cd + 1 : Nat) : Int))) 21 cd (iz k), ?_, ((KP.rf S).set (Or.inr (Or.inr rfl)) _).put _ _, rfl, rfl, rfl, fun j hj => ?_, fun j hj => ?_⟩
  · unfold m_codes
    rw [nmE, h]
    refine chkE rfl (by omega) ?_
    rw [nmE, iz_clampN (by omega), show (1 : Int32) = iz 1 from rfl, iz_add]; rfl
  · rw [ma_sA _ _ _ (by omega), if_pos rfl, if_neg (by omega)]; rfl
  · have : j = 0 := by simp at hj; omega
    subst this
    rw [ma_sA _ _ _ (by omega), if_pos rfl, if_pos (Nat.add_zero _)]; rfl
/-! the component's reader -/
def RdX (M : MS) (n a0 : Nat) (T : XS) (at_ : Nat) (fa : Int) (op : Nat) : Prop := T.1 10 = iz n ∧ (∀ k : Nat, k < n → T.2.1 9 k = iz (cr M n k)) ∧ ∃ ro : XO, T.2.2.2 a0 = some ro ∧ ro.1 = 5 ∧ ro.2.1 0 = iz at_ ∧ ro.2.1 1 = iz fa ∧ ro.2.1 2 = iz op
def Ext (a0 : Nat) (T T' : XS) : Prop := T'.1 = T.1 ∧ T'.2.1 = T.2.1 ∧ T'.2.2.1 = T.2.2.1 ∧ ∀ (a : Nat) (o : XO), a ≠ a0 → T.2.2.2 a = some o → T'.2.2.2 a = some o
theorem Ext.rf (a0 : Nat) (T : XS) : Ext a0 T T := ⟨rfl, rfl, rfl, fun _ _ _ h => h⟩
theorem Ext.tr {a0 : Nat} {T T' T'' : XS} (h : Ext a0 T T') (g : Ext a0 T' T'') : Ext a0 T T'' := ⟨g.1.trans h.1, g.2.1.trans h.2.1, g.2.2.1.trans h.2.2.1, fun a o ha ho => g.2.2.2 a o ha (h.2.2.2 a o ha ho)⟩
theorem Ext.own {a0 : Nat} {T T' : XS} (h : Ext a0 T T') (x : XO) : Ext a0 T (xO T' a0 x) := ⟨h.1, h.2.1, h.2.2.1, fun a o ha ho => by
  rw [xO23, if_neg ha]; exact h.2.2.2 a o ha ho⟩
theorem Ext.new {a0 q : Nat} {T T' : XS} (h : Ext a0 T T') (hq : T'.2.2.2 q = none) (x : XO) : Ext a0 T (xO T' q x) := ⟨h.1, h.2.1, h.2.2.1, fun a o ha ho => by
  have := h.2.2.2 a o ha ho
  rw [xO23, if_neg (fun e => by rw [e, hq] at this; cases this)]; exact this⟩
theorem nodeR.ext {a0 : Nat} {T T' : XS} (h : Ext a0 T T') {ro : XO} (hr : T.2.2.2 a0 = some ro) (h5 : ro.1 = 5) {d a : Nat} {c : List Int} (g : nodeR T d a c) : nodeR T' d a c :=
  nodeR.cg (fun b o hb ht => h.2.2.2 b o (fun e => by rw [e, hr] at hb; cases hb; omega) hb) d a c g
theorem nodeR.up {T : XS} : ∀ (d a : Nat) (c : List Int), nodeR T d a c → ∀ e, nodeR T (d + e) a c := by
  intro d
  induction d with
  | zero => intro a c h; exact h.elim
  | succ d ih =>
    intro a c h e
    rw [show d + 1 + e = (d + e) + 1 by omega]
    obtain ⟨o, ho, h⟩ := h
    refine ⟨o, ho, ?_⟩
    rcases h with h | h | ⟨t, b, c1, q1, q2, q3⟩ | ⟨t, b, c1, q1, q2, q3⟩ | ⟨t, b1, b2, c1, c2, k, k1, k2, q1, q2, q3, q4, q5, q6⟩
    · exact Or.inl h
    · exact Or.inr (Or.inl h)
    · exact Or.inr (Or.inr (Or.inl ⟨t, b, c1, q1, ih _ _ q2 e, q3⟩))
    · exact Or.inr (Or.inr (Or.inr (Or.inl ⟨t, b, c1, q1, ih _ _ q2 e, q3⟩)))
    · exact Or.inr (Or.inr (Or.inr (Or.inr ⟨t, b1, b2, c1, c2, k, k1, k2, q1, q2, q3, ih _ _ q4 e, ih _ _ q5 e, q6⟩)))
theorem nodeR.to {T : XS} {d d' a : Nat} {c : List Int} (h : nodeR T d a c) (hd : d ≤ d') : nodeR T d' a c := by
  have := nodeR.up d a c h (d' - d)
  rw [show d + (d' - d) = d' by omega] at this
  exact this
theorem RdX.new {M : MS} {n a0 q : Nat} {T : XS} {at_ : Nat} {fa : Int} {op : Nat} (h : RdX M n a0 T at_ fa op) (hq : T.2.2.2 q = none) (x : XO) : RdX M n a0 (xO T q x) at_ fa op := by
  obtain ⟨h1, h2, ro, h3, h4⟩ := h
  exact ⟨h1, h2, ro, by rw [xO23, if_neg (fun e => by rw [← e, h3] at hq; cases hq)]; exact h3, h4⟩
theorem RdX.at_ {M : MS} {n a0 : Nat} {T : XS} {at_ : Nat} {fa : Int} {op : Nat} (h : RdX M n a0 T at_ fa op) {ro : XO} (hr : T.2.2.2 a0 = some ro) (v : Nat) : RdX M n a0 (xO T a0 (oI ro 0 (iz v))) v fa op := by
  obtain ⟨h1, h2, ro', h3, h4, h5, h6, h7⟩ := h
  rw [hr] at h3; cases h3
  refine ⟨h1, h2, oI ro 0 (iz v), by rw [xO23, if_pos rfl], h4, ?_, ?_, ?_⟩
  · rw [oI21, if_pos rfl]
  · rw [oI21, if_neg (by decide)]; exact h6
  · rw [oI21, if_neg (by decide)]; exact h7
theorem RdX.fa {M : MS} {n a0 : Nat} {T : XS} {at_ : Nat} {fa : Int} {op : Nat} (h : RdX M n a0 T at_ fa op) {ro : XO} (hr : T.2.2.2 a0 = some ro) (v : Int) : RdX M n a0 (xO T a0 (oI ro 1 (iz v))) at_ v op := by
  obtain ⟨h1, h2, ro', h3, h4, h5, h6, h7⟩ := h
  rw [hr] at h3; cases h3
  refine ⟨h1, h2, oI ro 1 (iz v), by rw [xO23, if_pos rfl], h4, ?_, ?_, ?_⟩
  · rw [oI21, if_neg (by decide)]; exact h5
  · rw [oI21, if_pos rfl]
  · rw [oI21, if_neg (by decide)]; exact h7
theorem RdX.op {M : MS} {n a0 : Nat} {T : XS} {at_ : Nat} {fa : Int} {op : Nat} (h : RdX M n a0 T at_ fa op) {ro : XO} (hr : T.2.2.2 a0 = some ro) (v : Nat) : RdX M n a0 (xO T a0 (oI ro 2 (iz v))) at_ fa v := by
  obtain ⟨h1, h2, ro', h3, h4, h5, h6, h7⟩ := h
  rw [hr] at h3; cases h3
  refine ⟨h1, h2, oI ro 2 (iz v), by rw [xO23, if_pos rfl], h4, ?_, ?_, ?_⟩
  · rw [oI21, if_neg (by decide)]; exact h5
  · rw [oI21, if_neg (by decide)]; exact h6
  · rw [oI21, if_pos rfl]
theorem RdX.ob {M : MS} {n a0 : Nat} {T : XS} {at_ : Nat} {fa : Int} {op : Nat} (h : RdX M n a0 T at_ fa op) : ∃ ro : XO, T.2.2.2 a0 = some ro ∧ getO T a0 5 = some ro ∧ ro.1 = 5 ∧ ro.2.1 0 = iz at_ ∧ ro.2.1 1 = iz fa ∧ ro.2.1 2 = iz op := by
  obtain ⟨h1, h2, ro, h3, h4, h5⟩ := h
  exact ⟨ro, h3, getO_eq h3 h4, h4, h5⟩
theorem r_here_iz {M : MS} {n a0 : Nat} (ht : Tape M n) {T : XS} {at_ : Nat} {fa : Int} {op : Nat} (h : RdX M n a0 T at_ fa op) (hat : at_ ≤ n) : r_here T a0 = some (iz (cr M n at_)) := by
  obtain ⟨ro, r1, r2, r3, r4, r5, r6⟩ := h.ob
  have n120 := ht.2.1
  unfold r_here
  refine bindE r2 (bindE r2 ?_)
  rw [h.1, r4]
  by_cases c : n ≤ at_
  · refine iteTE ((iz_le (by omega)).mpr (by omega)) ?_
    unfold cr
    rw [if_neg (by omega)]; rfl
  · refine iteFE (by rw [iz_le (by omega)]; omega) (bindE r2 (bindE r2 (chkE r4 (by omega) ?_)))
    rw [r4, iz_clampN (by omega), h.2.1 at_ (by omega)]
theorem r_one_iz {M : MS} {n a0 : Nat} (ht : Tape M n) {T : XS} {at_ : Nat} {fa : Int} {op : Nat} (h : RdX M n a0 T at_ fa op) (hat : at_ ≤ n) {i : Nat} (hi : i < 4) : r_one i T a0 = some (decide (cr M n at_ ∈ litC i)) := by
  obtain ⟨ro, r1, r2, -⟩ := h.ob
  unfold r_one r_isOne
  exact bindE r2 (bindE (r_here_iz ht h hat) (one_at hi (ch_R ht at_).2.1))
/-! what is to hold behind -/
def Out (M : MS) (n a0 : Nat) (ok : Bool) (at' op D : Nat) (c : List Int) (T' : XS) (g : Option Nat) : Prop := (ok = true ∧ RdX M n a0 T' at' (-1) op ∧ ∃ q, g = some q ∧ nodeR T' D q c) ∨ (ok = false ∧ g = none ∧ ∃ at2 op2 : Nat, RdX M n a0 T' at2 at' op2)
def MOk (M : MS) (n : Nat) (S S' : MS) (at_ op cd : Nat) (b ok : Bool) (at' : Nat) (c : List Int) : Prop := KP S S' ∧ S'.1 14 = iz at' ∧ (at_ ≤ at' ∧ at' ≤ n) ∧ (b = true → S'.1 15 = iz op ∧ S'.1 16 = iz ((cd + c.length : Nat) : Int) ∧ at_ + c.length ≤ at' ∧ Cds S S' cd c) ∧ (b = true → ok = false → 48 ≤ ch M n at' ∧ ch M n at' ≤ 57) ∧ (ok = true → b = true)
abbrev rQ : Type := Option Nat → XS → Prop
def SSpec (M : MS) (n a0 : Nat) (rM : MS → Option (Bool × MS)) (rR : rQ → Nat → XS → Prop) (S : MS) (at_ op cd : Nat) : Prop :=
  ∃ (b ok : Bool) (at' : Nat) (c : List Int) (S' : MS), rM S = some (b, S') ∧ MOk M n S S' at_ op cd b ok at' c ∧ (b = true → at_ < at') ∧ ∀ (Q : rQ) (m : Nat) (T : XS), RdX M n a0 T at_ (-1) op → at' - at_ ≤ m → (∀ (T' : XS) (g : Option Nat), Ext a0 T T' → Out M n a0 ok at' op (at' - at_) c T' g → Q g T') → rR Q m T
def LSpec (M : MS) (n a0 : Nat) (lM : MS → Option (Bool × MS)) (lR : rQ → Nat → XS → Option Nat → Prop) (S : MS) (at_ op cd : Nat) : Prop :=
  ∃ (b ok : Bool) (at' : Nat) (c : List Int) (S' : MS), lM S = some (b, S') ∧ MOk M n S S' at_ op cd b ok at' c ∧ ∀ (Q : rQ) (m : Nat) (T : XS) (q1 : Nat) (c1 : List Int) (D : Nat), RdX M n a0 T at_ (-1) op → nodeR T D q1 c1 → at' - at_ ≤ m → (∀ (T' : XS) (g : Option Nat), Ext a0 T T' → Out M n a0 ok at' op (D + (at' - at_)) (c1 ++ c) T' g → Q g T') → lR Q m T (some q1)
theorem bindPE {α : Type} {x : Option α} {v : α} {f : α → Prop} (h : x = some v) (k : f v) : bindP x f := ⟨v, h, k⟩
/-- a pair made -/
theorem joined_ok {M : MS} {n a0 : Nat} {Q : rQ} {m : Nat} {T : XS} {at_ op : Nat} (h : RdX M n a0 T at_ (-1) op) (hm : 1 ≤ m) {k : Int} (hk : 6 ≤ k ∧ k ≤ 15) {q1 q2 D1 D2 : Nat} {c1 c2 : List Int} (n1 : nodeR T D1 q1 c1) (n2 : nodeR T D2 q2 c2) (hQ : ∀ (T' : XS) (g : Option Nat), Ext a0 T T' → RdX M n a0 T' at_ (-1) op → (∃ q, g = some q ∧ nodeR T' (max D1 D2 + 1) q (c1 ++ (c2 ++ [k]))) → Q g T') : r_joined Q a0 m T (iz (signOf k)) (some q1) (some q2) := by
  obtain ⟨ro, r1, r2, r3, r4, r5, r6⟩ := h.ob
  refine bindPE r2 (iteT (by rw [r5]; decide) ⟨m - 1, by omega, fun q hq => ?_⟩)
  have e := (Ext.rf a0 T).new hq (mkO 12 [iz (signOf k)] [none, some q1, some q2])
  refine hQ _ _ e (h.new hq _) ⟨q, rfl, ?_⟩
  refine ⟨mkO 12 [iz (signOf k)] [none, some q1, some q2], by rw [xO23, if_pos rfl], Or.inr (Or.inr (Or.inr (Or.inr ⟨rfl, q1, q2, c1, c2, k, hk.1, hk.2, rfl, rfl, rfl, ?_, ?_, rfl⟩)))⟩
  · exact (nodeR.ext e r1 r3 n1).to (by omega)
  · exact (nodeR.ext e r1 r3 n2).to (by omega)
theorem joined_no {M : MS} {n a0 : Nat} {Q : rQ} {m : Nat} {T : XS} {at_ op f : Nat} (h : RdX M n a0 T at_ f op) (hf : f ≤ 1000) {p : Int32} {p2 p3 : Option Nat} (hQ : Q none T) : r_joined Q a0 m T p p2 p3 := by
  obtain ⟨ro, r1, r2, r3, r4, r5, r6⟩ := h.ob
  exact bindPE r2 (iteF (by rw [r5, show (0 : Int32) = iz 0 from rfl, iz_lt (by omega)]; omega) hQ)
