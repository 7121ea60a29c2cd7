/-! PLAIN LAW: the law's reader: the rules over an operand. Own text, printed by mkg3.py. -/
set_option maxRecDepth 100000
def opP (x : Int) : Option Int := if x = 42 then some 13 else if x = 47 then some 14 else if x = 37 then some 15 else none
theorem opP_ok : opcOK opP := by
  intro x k h
  unfold opP at h
  by_cases c0 : x = 42
  · rw [if_pos c0] at h
    have e := Option.some.inj h
    subst e
    exact ⟨by omega, by rw [c0]; rfl, by omega, by omega⟩
  rw [if_neg c0] at h
  by_cases c1 : x = 47
  · rw [if_pos c1] at h
    have e := Option.some.inj h
    subst e
    exact ⟨by omega, by rw [c1]; rfl, by omega, by omega⟩
  rw [if_neg c1] at h
  by_cases c2 : x = 37
  · rw [if_pos c2] at h
    have e := Option.some.inj h
    subst e
    exact ⟨by omega, by rw [c2]; rfl, by omega, by omega⟩
  rw [if_neg c2] at h
  cases h
theorem opP_no {x : Int} (h : opP x = none) : x ≠ 42 ∧ x ≠ 47 ∧ x ≠ 37 := by
  unfold opP at h
  by_cases c0 : x = 42
  · rw [if_pos c0] at h; cases h
  rw [if_neg c0] at h
  by_cases c1 : x = 47
  · rw [if_pos c1] at h; cases h
  rw [if_neg c1] at h
  by_cases c2 : x = 37
  · rw [if_pos c2] at h; cases h
  rw [if_neg c2] at h
  exact ⟨c0, c1, c2⟩
theorem opP_yes {x k : Int} (h : opP x = some k) : (x = 42 ∧ k = 13) ∨ (x = 47 ∧ k = 14) ∨ (x = 37 ∧ k = 15) := by
  unfold opP at h
  by_cases c0 : x = 42
  · rw [if_pos c0] at h; exact Or.inl ⟨c0, (Option.some.inj h).symm⟩
  rw [if_neg c0] at h
  by_cases c1 : x = 47
  · rw [if_pos c1] at h; exact Or.inr (Or.inl ⟨c1, (Option.some.inj h).symm⟩)
  rw [if_neg c1] at h
  by_cases c2 : x = 37
  · rw [if_pos c2] at h; exact Or.inr (Or.inr (⟨c2, (Option.some.inj h).symm⟩))
  rw [if_neg c2] at h
  cases h
theorem opP_dg {x : Int} (h : 48 ≤ x ∧ x ≤ 57) : opP x = none := by
  unfold opP
  rw [if_neg (by omega), if_neg (by omega), if_neg (by omega)]
def opS (x : Int) : Option Int := if x = 43 then some 11 else if x = 45 then some 12 else none
theorem opS_ok : opcOK opS := by
  intro x k h
  unfold opS at h
  by_cases c0 : x = 43
  · rw [if_pos c0] at h
    have e := Option.some.inj h
    subst e
    exact ⟨by omega, by rw [c0]; rfl, by omega, by omega⟩
  rw [if_neg c0] at h
  by_cases c1 : x = 45
  · rw [if_pos c1] at h
    have e := Option.some.inj h
    subst e
    exact ⟨by omega, by rw [c1]; rfl, by omega, by omega⟩
  rw [if_neg c1] at h
  cases h
theorem opS_no {x : Int} (h : opS x = none) : x ≠ 43 ∧ x ≠ 45 := by
  unfold opS at h
  by_cases c0 : x = 43
  · rw [if_pos c0] at h; cases h
  rw [if_neg c0] at h
  by_cases c1 : x = 45
  · rw [if_pos c1] at h; cases h
  rw [if_neg c1] at h
  exact ⟨c0, c1⟩
theorem opS_yes {x k : Int} (h : opS x = some k) : (x = 43 ∧ k = 11) ∨ (x = 45 ∧ k = 12) := by
  unfold opS at h
  by_cases c0 : x = 43
  · rw [if_pos c0] at h; exact Or.inl ⟨c0, (Option.some.inj h).symm⟩
  rw [if_neg c0] at h
  by_cases c1 : x = 45
  · rw [if_pos c1] at h; exact Or.inr (⟨c1, (Option.some.inj h).symm⟩)
  rw [if_neg c1] at h
  cases h
theorem opS_dg {x : Int} (h : 48 ≤ x ∧ x ≤ 57) : opS x = none := by
  unfold opS
  rw [if_neg (by omega), if_neg (by omega)]
def opB (x : Int) : Option Int := if x = 60 then some 8 else if x = 61 then some 9 else if x = 62 then some 10 else none
theorem opB_ok : opcOK opB := by
  intro x k h
  unfold opB at h
  by_cases c0 : x = 60
  · rw [if_pos c0] at h
    have e := Option.some.inj h
    subst e
    exact ⟨by omega, by rw [c0]; rfl, by omega, by omega⟩
  rw [if_neg c0] at h
  by_cases c1 : x = 61
  · rw [if_pos c1] at h
    have e := Option.some.inj h
    subst e
    exact ⟨by omega, by rw [c1]; rfl, by omega, by omega⟩
  rw [if_neg c1] at h
  by_cases c2 : x = 62
  · rw [if_pos c2] at h
    have e := Option.some.inj h
    subst e
    exact ⟨by omega, by rw [c2]; rfl, by omega, by omega⟩
  rw [if_neg c2] at h
  cases h
theorem opB_no {x : Int} (h : opB x = none) : x ≠ 60 ∧ x ≠ 61 ∧ x ≠ 62 := by
  unfold opB at h
  by_cases c0 : x = 60
  · rw [if_pos c0] at h; cases h
  rw [if_neg c0] at h
  by_cases c1 : x = 61
  · rw [if_pos c1] at h; cases h
  rw [if_neg c1] at h
  by_cases c2 : x = 62
  · rw [if_pos c2] at h; cases h
  rw [if_neg c2] at h
  exact ⟨c0, c1, c2⟩
theorem opB_yes {x k : Int} (h : opB x = some k) : (x = 60 ∧ k = 8) ∨ (x = 61 ∧ k = 9) ∨ (x = 62 ∧ k = 10) := by
  unfold opB at h
  by_cases c0 : x = 60
  · rw [if_pos c0] at h; exact Or.inl ⟨c0, (Option.some.inj h).symm⟩
  rw [if_neg c0] at h
  by_cases c1 : x = 61
  · rw [if_pos c1] at h; exact Or.inr (Or.inl ⟨c1, (Option.some.inj h).symm⟩)
  rw [if_neg c1] at h
  by_cases c2 : x = 62
  · rw [if_pos c2] at h; exact Or.inr (Or.inr (⟨c2, (Option.some.inj h).symm⟩))
  rw [if_neg c2] at h
  cases h
theorem opB_dg {x : Int} (h : 48 ≤ x ∧ x ≤ 57) : opB x = none := by
  unfold opB
  rw [if_neg (by omega), if_neg (by omega), if_neg (by omega)]
def opA (x : Int) : Option Int := if x = 38 then some 7 else none
theorem opA_ok : opcOK opA := by
  intro x k h
  unfold opA at h
  by_cases c0 : x = 38
  · rw [if_pos c0] at h
    have e := Option.some.inj h
    subst e
    exact ⟨by omega, by rw [c0]; rfl, by omega, by omega⟩
  rw [if_neg c0] at h
  cases h
theorem opA_no {x : Int} (h : opA x = none) : x ≠ 38 := by
  unfold opA at h
  by_cases c0 : x = 38
  · rw [if_pos c0] at h; cases h
  rw [if_neg c0] at h
  exact c0
theorem opA_yes {x k : Int} (h : opA x = some k) : (x = 38 ∧ k = 7) := by
  unfold opA at h
  by_cases c0 : x = 38
  · rw [if_pos c0] at h; exact ⟨c0, (Option.some.inj h).symm⟩
  rw [if_neg c0] at h
  cases h
theorem opA_dg {x : Int} (h : 48 ≤ x ∧ x ≤ 57) : opA x = none := by
  unfold opA
  rw [if_neg (by omega)]
def opE (x : Int) : Option Int := if x = 124 then some 6 else none
theorem opE_ok : opcOK opE := by
  intro x k h
  unfold opE at h
  by_cases c0 : x = 124
  · rw [if_pos c0] at h
    have e := Option.some.inj h
    subst e
    exact ⟨by omega, by rw [c0]; rfl, by omega, by omega⟩
  rw [if_neg c0] at h
  cases h
theorem opE_no {x : Int} (h : opE x = none) : x ≠ 124 := by
  unfold opE at h
  by_cases c0 : x = 124
  · rw [if_pos c0] at h; cases h
  rw [if_neg c0] at h
  exact c0
theorem opE_yes {x k : Int} (h : opE x = some k) : (x = 124 ∧ k = 6) := by
  unfold opE at h
  by_cases c0 : x = 124
  · rw [if_pos c0] at h; exact ⟨c0, (Option.some.inj h).symm⟩
  rw [if_neg c0] at h
  cases h
theorem opE_dg {x : Int} (h : 48 ≤ x ∧ x ≤ 57) : opE x = none := by
  unfold opE
  rw [if_neg (by omega)]
def m_cmpL (o : MS → Option (Bool × MS)) (N : Nat) (T3 : MS) : Option (Bool × MS) := (m_sign T3).bind fun v5 => (if v5 = 60 then m_isB_b52 o N T3 8 else (m_sign T3).bind fun v7 => (if v7 = 61 then m_isB_b52 o N T3 9 else (m_sign T3).bind fun v9 => (if v9 = 62 then m_isB_b52 o N T3 10 else m_isB_b52 o N T3 (-1))))
def r_cmpL (o : rO) (N a0 : Nat) (Q : rQ) (m5 : Nat) (T8 : XS) (v3 : Option Nat) : Prop := bindP (getO T8 a0 5) fun q9 =>
  (if 0 ≤ (q9.2.1 1) then
  Q v3 T8
  else
  bindP (getO T8 a0 5) fun q11 =>
  bindP (r_one 3 T8 a0) fun v13 =>
  (if (b2i v13) = 0 then
  Q v3 T8
  else
  bindP (getO T8 a0 5) fun q17 =>
  bindP (r_here T8 a0) fun v16 =>
  bindP (getO T8 a0 5) fun q19 =>
  bindP (getO T8 a0 5) fun q21 =>
  nmP (xO T8 a0 (oI q21 0 ((q19.2.1 0) + 1))) fun T23 =>
  bindP (getO T23 a0 5) fun q24 =>
  splP m5 fun m27 m28 =>
  r_sum (fun v26 T31 =>
  bindP (getO T31 a0 5) fun q32 =>
  splP m28 fun m35 m36 =>
  r_joined (fun v34 T39 =>
  Q v34 T39) a0 m35 T31 v16 v3 v26) o N a0 m27 T23))
section RULES
variable {M : MS} {n a0 : Nat} {oM : MS → Option (Bool × MS)} {oR : rO} {N op : Nat}
theorem cr_in {M : MS} {n : Nat} (ht : Tape M n) {k : Nat} {l : List Int} (hl : ∀ x, x ∈ l → 0 ≤ x) (h : ch M n k ∉ l) : cr M n k ∉ l := fun q => by
  have := (ch_R ht k).2.2.2.1 (hl _ q)
  rw [this] at q
  exact h q
theorem cr_of {M : MS} {n : Nat} (ht : Tape M n) {k : Nat} (h : 0 ≤ ch M n k ∧ ch M n k < 128) : cr M n k = ch M n k := (ch_R ht k).2.2.1 h
theorem mP_n (ht : Tape M n) {fu : Nat} {S : MS} {at_ op cd : Nat} (h : MRd M n S at_ op cd) (ho : opP (ch M n at_) = none) : (m_isP_b9 oM N (fu + 1)) S = some (true, S) := by
  obtain ⟨h0, h1, h2⟩ := opP_no ho
  have cR := (ch_R ht at_).1
  rw [m_isP_b9]
  refine bindE (m_sign_iz ht h) (iteFE (by rw [show (42 : Int32) = iz 42 from rfl, iz_eq (by omega)]; exact h0) (bindE (m_sign_iz ht h) (iteFE (by rw [show (47 : Int32) = iz 47 from rfl, iz_eq (by omega)]; exact h1) (bindE (m_sign_iz ht h) (iteFE (by rw [show (37 : Int32) = iz 37 from rfl, iz_eq (by omega)]; exact h2) (?_))))))
  unfold m_isP_b52
  exact iteFE (by decide) rfl
theorem mP_s (ht : Tape M n) {fu : Nat} {S : MS} {at_ op cd : Nat} (h : MRd M n S at_ op cd) {k : Int} (ho : opP (ch M n at_) = some k) (b : Bool) (S1 : MS) (hs : (oM) (sI S 14 (iz ((at_ + 1 : Nat) : Int))) = some (b, S1)) : (b = false → (m_isP_b9 oM N (fu + 1)) S = some (false, S1)) ∧ (b = true → ∀ S2, m_codes S1 (iz k) = some (true, S2) → (m_isP_b9 oM N (fu + 1)) S = (m_isP_b9 oM N fu) S2) := by
  have e14 : S.1 14 + 1 = iz ((at_ + 1 : Nat) : Int) := by rw [h.2.2.1, show (1 : Int32) = iz 1 from rfl, iz_add]; rfl
  have cR := (ch_R ht at_).1
  have key : ∀ r, (m_isP_b52 oM N (fun t => m_isP_b9 oM N fu t) S (iz k)) = r → 0 ≤ k → (m_isP_b9 oM N (fu + 1)) S = r := fun r hr _ => by
    rw [m_isP_b9]
    rcases opP_yes ho with ⟨e, rfl⟩ | ⟨e, rfl⟩ | ⟨e, rfl⟩
    · exact bindE (m_sign_iz ht h) (iteTE (by rw [e]; rfl) hr)
    · exact bindE (m_sign_iz ht h) (iteFE (by rw [show (42 : Int32) = iz 42 from rfl, iz_eq (by omega)]; omega) (bindE (m_sign_iz ht h) (iteTE (by rw [e]; rfl) hr)))
    · exact bindE (m_sign_iz ht h) (iteFE (by rw [show (42 : Int32) = iz 42 from rfl, iz_eq (by omega)]; omega) (bindE (m_sign_iz ht h) (iteFE (by rw [show (47 : Int32) = iz 47 from rfl, iz_eq (by omega)]; omega) (bindE (m_sign_iz ht h) (iteTE (by rw [e]; rfl) hr)))))
  have k0 : 0 ≤ k ∧ k ≤ 15 := by rcases opP_yes ho with ⟨e, e2⟩ | ⟨e, e2⟩ | ⟨e, e2⟩ <;> omega
  have kle : (0 : Int32) ≤ iz k := by rw [show (0 : Int32) = iz 0 from rfl, iz_le (by omega)]; exact k0.1
  constructor
  · intro hb
    refine key _ ?_ k0.1
    unfold m_isP_b52
    refine iteTE kle ?_
    rw [nmE, e14]
    exact b2E hs (iteTE (b2iF' hb) rfl)
  · intro hb S2 hc
    refine key _ ?_ k0.1
    unfold m_isP_b52
    refine iteTE kle ?_
    rw [nmE, e14]
    exact b2E hs (iteFE (b2iT' hb) (b2E hc rfl))
theorem rP_f {fu : Nat} {Q : rQ} {m : Nat} {T : XS} {at2 f op2 : Nat} (hf : f ≤ 1000) (h : RdX M n a0 T at2 f op2) (hQ : Q none T) : r_product_b5 Q oR N a0 (fu + 1) m T none := by
  obtain ⟨ro, r1, r2, r3, r4, r5, r6⟩ := h.ob
  rw [r_product_b5]
  exact bindPE r2 (iteT (by rw [r5, show (0 : Int32) = iz 0 from rfl, iz_le (by omega)]; omega) hQ)
theorem rP_n (ht : Tape M n) {fu : Nat} {Q : rQ} {m : Nat} {T : XS} {at_ op : Nat} {l : Option Nat} (hat : at_ ≤ n) (h : RdX M n a0 T at_ (-1) op) (ho : opP (ch M n at_) = none) (hQ : Q l T) : r_product_b5 Q oR N a0 (fu + 1) m T l := by
  obtain ⟨ro, r1, r2, r3, r4, r5, r6⟩ := h.ob
  rw [r_product_b5]
  refine bindPE r2 (iteF (by rw [r5]; decide) ?_)
  have hl := opP_no ho
  have e : r_one 1 T a0 = some false := by
    rw [r_one_iz ht h hat (by decide), decide_eq_false (cr_in ht (fun x hx => ?_) (fun q => ?_))]
    · simp only [litC, List.mem_cons, List.not_mem_nil, or_false] at hx; omega
    · simp only [litC, List.mem_cons, List.not_mem_nil, or_false] at q; omega
  exact bindPE r2 (bindPE e (iteT rfl hQ))
theorem rP_s (ht : Tape M n) {fu : Nat} {Q : rQ} {m : Nat} {T : XS} {at_ op : Nat} {l : Option Nat} (hat : at_ ≤ n) (h : RdX M n a0 T at_ (-1) op) {k : Int} (ho : opP (ch M n at_) = some k) {ro : XO} (hr : T.2.2.2 a0 = some ro) (hh : splP m fun m1 m2 => (fun Q m T => oR Q a0 m T) (fun v T1 => bindP (getO T1 a0 5) fun _ => splP m2 fun m3 m4 => r_joined (fun v' T2 => (fun Q m T l => r_product_b5 Q oR N a0 fu m T l) Q m4 T2 v') a0 m3 T1 (iz (signOf k)) l v) m1 (xO T a0 (oI ro 0 (iz ((at_ + 1 : Nat) : Int))))) : r_product_b5 Q oR N a0 (fu + 1) m T l := by
  obtain ⟨ro9, r1, r2, r3, r4, r5, r6⟩ := h.ob
  rw [hr] at r1; cases r1
  obtain ⟨ok1, ok2, ok3, ok4⟩ := opP_ok _ _ ho
  have cR := ch_R ht at_
  have e4 : ro.2.1 0 + 1 = iz ((at_ + 1 : Nat) : Int) := by rw [r4, show (1 : Int32) = iz 1 from rfl, iz_add]; rfl
  have gT : getO (xO T a0 (oI ro 0 (iz ((at_ + 1 : Nat) : Int)))) a0 5 = some (oI ro 0 (iz ((at_ + 1 : Nat) : Int))) := getO_eq (by rw [xO23, if_pos rfl]) r3
  have hx := opP_yes ho
  have hc : cr M n at_ = signOf k := by rw [cr_of ht (by omega)]; exact ok2
  rw [r_product_b5]
  refine bindPE r2 (iteF (by rw [r5]; decide) ?_)
  have e : r_one 1 T a0 = some true := by
    rw [r_one_iz ht h hat (by decide), decide_eq_true ?_]
    rw [cr_of ht (by omega)]
    simp only [litC, List.mem_cons, List.not_mem_nil, or_false]; omega
  refine bindPE r2 (bindPE e (iteF b2iT (bindPE r2 (bindPE (r_here_iz ht h hat) (bindPE r2 (bindPE r2 ?_))))))
  rw [hc, e4]
  exact bindPE gT hh
theorem chainP (ht : Tape M n) (hsub : ∀ (S : MS) (at_ cd : Nat), MRd M n S at_ op cd → SSpec M n a0 (oM) (fun Q m T => oR Q a0 m T) S at_ op cd) : ∀ (fu : Nat) (S : MS) (at_ cd : Nat), MRd M n S at_ op cd → n - at_ < fu → LSpec M n a0 (m_isP_b9 oM N fu) (fun Q m T l => r_product_b5 Q oR N a0 fu m T l) S at_ op cd := by
  intro fu
  induction fu with
  | zero => intro S at_ cd _ h; omega
  | succ fu ih =>
    intro S at_ cd hS hf
    have hat := hS.2.2.2.2.2.1
    exact step_spec ht opP_ok hsub hS (mP_n ht hS) (fun k ho b S1 hs => mP_s ht hS ho b S1 hs) (fun ho Q m T q1 hT hQ => rP_n ht hat hT ho hQ) (fun k ho Q m T q1 ro hT hr hh => rP_s ht hat hT ho hr hh) (fun hn Q m T at2 f op2 hf2 hX hQ => by
      obtain ⟨fu, rfl⟩ : ∃ g, fu = g + 1 := ⟨fu - 1, by omega⟩
      exact rP_f hf2 hX hQ) (fun hn S2 at2 cd2 hS2 hd => by
      obtain ⟨fu, rfl⟩ : ∃ g, fu = g + 1 := ⟨fu - 1, by omega⟩
      exact mP_n ht hS2 (opP_dg hd)) (fun S2 at2 cd2 hlt hS2 => ih S2 at2 cd2 hS2 (by have := hS2.2.2.2.2.2.1; omega))
theorem ruleP (ht : Tape M n) (hN : 200 ≤ N) (hsub : ∀ (S : MS) (at_ cd : Nat), MRd M n S at_ op cd → SSpec M n a0 (oM) (fun Q m T => oR Q a0 m T) S at_ op cd) {S : MS} {at_ cd : Nat} (hS : MRd M n S at_ op cd) : SSpec M n a0 (m_isP oM N) (fun Q m T => r_product Q oR N a0 m T) S at_ op cd := by
  refine seq_spec ht (loopM := m_isP_b9 oM N N) (loopR := (fun Q m T l => r_product_b5 Q oR N a0 N m T l)) hsub (fun S => rfl) (fun Q m T at_ op hT hh => ?_) (fun Q m T at2 f op2 hf hX hQ => ?_) (fun S2 at2 cd2 hS2 hd => ?_) (fun S2 at2 cd2 hS2 => chainP ht hsub N S2 at2 cd2 hS2 (by have := ht.2.1; omega)) hS
  · obtain ⟨ro, r1, r2, -⟩ := hT.ob
    exact bindPE r2 hh
  · obtain ⟨N, rfl⟩ : ∃ g, N = g + 1 := ⟨N - 1, by omega⟩
    exact rP_f hf hX hQ
  · obtain ⟨N, rfl⟩ : ∃ g, N = g + 1 := ⟨N - 1, by omega⟩
    exact mP_n ht hS2 (opP_dg hd)
theorem mS_n (ht : Tape M n) {fu : Nat} {S : MS} {at_ op cd : Nat} (h : MRd M n S at_ op cd) (ho : opS (ch M n at_) = none) : (m_isS_b9 oM N (fu + 1)) S = some (true, S) := by
  obtain ⟨h0, h1⟩ := opS_no ho
  have cR := (ch_R ht at_).1
  rw [m_isS_b9]
  refine bindE (m_sign_iz ht h) (iteFE (by rw [show (43 : Int32) = iz 43 from rfl, iz_eq (by omega)]; exact h0) (bindE (m_sign_iz ht h) (iteFE (by rw [show (45 : Int32) = iz 45 from rfl, iz_eq (by omega)]; exact h1) (?_))))
  unfold m_isS_b38
  exact iteFE (by decide) rfl
theorem mS_s (ht : Tape M n) {fu : Nat} {S : MS} {at_ op cd : Nat} (h : MRd M n S at_ op cd) {k : Int} (ho : opS (ch M n at_) = some k) (b : Bool) (S1 : MS) (hs : (m_isP oM N) (sI S 14 (iz ((at_ + 1 : Nat) : Int))) = some (b, S1)) : (b = false → (m_isS_b9 oM N (fu + 1)) S = some (false, S1)) ∧ (b = true → ∀ S2, m_codes S1 (iz k) = some (true, S2) → (m_isS_b9 oM N (fu + 1)) S = (m_isS_b9 oM N fu) S2) := by
  have e14 : S.1 14 + 1 = iz ((at_ + 1 : Nat) : Int) := by rw [h.2.2.1, show (1 : Int32) = iz 1 from rfl, iz_add]; rfl
  have cR := (ch_R ht at_).1
  have key : ∀ r, (m_isS_b38 oM N (fun t => m_isS_b9 oM N fu t) S (iz k)) = r → 0 ≤ k → (m_isS_b9 oM N (fu + 1)) S = r := fun r hr _ => by
    rw [m_isS_b9]
    rcases opS_yes ho with ⟨e, rfl⟩ | ⟨e, rfl⟩
    · exact bindE (m_sign_iz ht h) (iteTE (by rw [e]; rfl) hr)
    · exact bindE (m_sign_iz ht h) (iteFE (by rw [show (43 : Int32) = iz 43 from rfl, iz_eq (by omega)]; omega) (bindE (m_sign_iz ht h) (iteTE (by rw [e]; rfl) hr)))
  have k0 : 0 ≤ k ∧ k ≤ 15 := by rcases opS_yes ho with ⟨e, e2⟩ | ⟨e, e2⟩ <;> omega
  have kle : (0 : Int32) ≤ iz k := by rw [show (0 : Int32) = iz 0 from rfl, iz_le (by omega)]; exact k0.1
  constructor
  · intro hb
    refine key _ ?_ k0.1
    unfold m_isS_b38
    refine iteTE kle ?_
    rw [nmE, e14]
    exact b2E hs (iteTE (b2iF' hb) rfl)
  · intro hb S2 hc
    refine key _ ?_ k0.1
    unfold m_isS_b38
    refine iteTE kle ?_
    rw [nmE, e14]
    exact b2E hs (iteFE (b2iT' hb) (b2E hc rfl))
theorem rS_f {fu : Nat} {Q : rQ} {m : Nat} {T : XS} {at2 f op2 : Nat} (hf : f ≤ 1000) (h : RdX M n a0 T at2 f op2) (hQ : Q none T) : r_sum_b5 Q oR N a0 (fu + 1) m T none := by
  obtain ⟨ro, r1, r2, r3, r4, r5, r6⟩ := h.ob
  rw [r_sum_b5]
  exact bindPE r2 (iteT (by rw [r5, show (0 : Int32) = iz 0 from rfl, iz_le (by omega)]; omega) hQ)
theorem rS_n (ht : Tape M n) {fu : Nat} {Q : rQ} {m : Nat} {T : XS} {at_ op : Nat} {l : Option Nat} (hat : at_ ≤ n) (h : RdX M n a0 T at_ (-1) op) (ho : opS (ch M n at_) = none) (hQ : Q l T) : r_sum_b5 Q oR N a0 (fu + 1) m T l := by
  obtain ⟨ro, r1, r2, r3, r4, r5, r6⟩ := h.ob
  rw [r_sum_b5]
  refine bindPE r2 (iteF (by rw [r5]; decide) ?_)
  have hl := opS_no ho
  have e : r_one 2 T a0 = some false := by
    rw [r_one_iz ht h hat (by decide), decide_eq_false (cr_in ht (fun x hx => ?_) (fun q => ?_))]
    · simp only [litC, List.mem_cons, List.not_mem_nil, or_false] at hx; omega
    · simp only [litC, List.mem_cons, List.not_mem_nil, or_false] at q; omega
  exact bindPE r2 (bindPE e (iteT rfl hQ))
theorem rS_s (ht : Tape M n) {fu : Nat} {Q : rQ} {m : Nat} {T : XS} {at_ op : Nat} {l : Option Nat} (hat : at_ ≤ n) (h : RdX M n a0 T at_ (-1) op) {k : Int} (ho : opS (ch M n at_) = some k) {ro : XO} (hr : T.2.2.2 a0 = some ro) (hh : splP m fun m1 m2 => (fun Q m T => r_product Q oR N a0 m T) (fun v T1 => bindP (getO T1 a0 5) fun _ => splP m2 fun m3 m4 => r_joined (fun v' T2 => (fun Q m T l => r_sum_b5 Q oR N a0 fu m T l) Q m4 T2 v') a0 m3 T1 (iz (signOf k)) l v) m1 (xO T a0 (oI ro 0 (iz ((at_ + 1 : Nat) : Int))))) : r_sum_b5 Q oR N a0 (fu + 1) m T l := by
  obtain ⟨ro9, r1, r2, r3, r4, r5, r6⟩ := h.ob
  rw [hr] at r1; cases r1
  obtain ⟨ok1, ok2, ok3, ok4⟩ := opS_ok _ _ ho
  have cR := ch_R ht at_
  have e4 : ro.2.1 0 + 1 = iz ((at_ + 1 : Nat) : Int) := by rw [r4, show (1 : Int32) = iz 1 from rfl, iz_add]; rfl
  have gT : getO (xO T a0 (oI ro 0 (iz ((at_ + 1 : Nat) : Int)))) a0 5 = some (oI ro 0 (iz ((at_ + 1 : Nat) : Int))) := getO_eq (by rw [xO23, if_pos rfl]) r3
  have hx := opS_yes ho
  have hc : cr M n at_ = signOf k := by rw [cr_of ht (by omega)]; exact ok2
  rw [r_sum_b5]
  refine bindPE r2 (iteF (by rw [r5]; decide) ?_)
  have e : r_one 2 T a0 = some true := by
    rw [r_one_iz ht h hat (by decide), decide_eq_true ?_]
    rw [cr_of ht (by omega)]
    simp only [litC, List.mem_cons, List.not_mem_nil, or_false]; omega
  refine bindPE r2 (bindPE e (iteF b2iT (bindPE r2 (bindPE (r_here_iz ht h hat) (bindPE r2 (bindPE r2 ?_))))))
  rw [hc, e4]
  exact bindPE gT hh
theorem chainS (ht : Tape M n) (hsub : ∀ (S : MS) (at_ cd : Nat), MRd M n S at_ op cd → SSpec M n a0 (m_isP oM N) (fun Q m T => r_product Q oR N a0 m T) S at_ op cd) : ∀ (fu : Nat) (S : MS) (at_ cd : Nat), MRd M n S at_ op cd → n - at_ < fu → LSpec M n a0 (m_isS_b9 oM N fu) (fun Q m T l => r_sum_b5 Q oR N a0 fu m T l) S at_ op cd := by
  intro fu
  induction fu with
  | zero => intro S at_ cd _ h; omega
  | succ fu ih =>
    intro S at_ cd hS hf
    have hat := hS.2.2.2.2.2.1
    exact step_spec ht opS_ok hsub hS (mS_n ht hS) (fun k ho b S1 hs => mS_s ht hS ho b S1 hs) (fun ho Q m T q1 hT hQ => rS_n ht hat hT ho hQ) (fun k ho Q m T q1 ro hT hr hh => rS_s ht hat hT ho hr hh) (fun hn Q m T at2 f op2 hf2 hX hQ => by
      obtain ⟨fu, rfl⟩ : ∃ g, fu = g + 1 := ⟨fu - 1, by omega⟩
      exact rS_f hf2 hX hQ) (fun hn S2 at2 cd2 hS2 hd => by
      obtain ⟨fu, rfl⟩ : ∃ g, fu = g + 1 := ⟨fu - 1, by omega⟩
      exact mS_n ht hS2 (opS_dg hd)) (fun S2 at2 cd2 hlt hS2 => ih S2 at2 cd2 hS2 (by have := hS2.2.2.2.2.2.1; omega))
theorem ruleS (ht : Tape M n) (hN : 200 ≤ N) (hsub : ∀ (S : MS) (at_ cd : Nat), MRd M n S at_ op cd → SSpec M n a0 (m_isP oM N) (fun Q m T => r_product Q oR N a0 m T) S at_ op cd) {S : MS} {at_ cd : Nat} (hS : MRd M n S at_ op cd) : SSpec M n a0 (m_isS oM N) (fun Q m T => r_sum Q oR N a0 m T) S at_ op cd := by
  refine seq_spec ht (loopM := m_isS_b9 oM N N) (loopR := (fun Q m T l => r_sum_b5 Q oR N a0 N m T l)) hsub (fun S => rfl) (fun Q m T at_ op hT hh => ?_) (fun Q m T at2 f op2 hf hX hQ => ?_) (fun S2 at2 cd2 hS2 hd => ?_) (fun S2 at2 cd2 hS2 => chainS ht hsub N S2 at2 cd2 hS2 (by have := ht.2.1; omega)) hS
  · obtain ⟨ro, r1, r2, -⟩ := hT.ob
    exact bindPE r2 hh
  · obtain ⟨N, rfl⟩ : ∃ g, N = g + 1 := ⟨N - 1, by omega⟩
    exact rS_f hf hX hQ
  · obtain ⟨N, rfl⟩ : ∃ g, N = g + 1 := ⟨N - 1, by omega⟩
    exact mS_n ht hS2 (opS_dg hd)
theorem mB_n (ht : Tape M n) {S : MS} {at_ op cd : Nat} (h : MRd M n S at_ op cd) (ho : opB (ch M n at_) = none) : (m_cmpL oM N) S = some (true, S) := by
  obtain ⟨h0, h1, h2⟩ := opB_no ho
  have cR := (ch_R ht at_).1
  unfold m_cmpL
  refine bindE (m_sign_iz ht h) (iteFE (by rw [show (60 : Int32) = iz 60 from rfl, iz_eq (by omega)]; exact h0) (bindE (m_sign_iz ht h) (iteFE (by rw [show (61 : Int32) = iz 61 from rfl, iz_eq (by omega)]; exact h1) (bindE (m_sign_iz ht h) (iteFE (by rw [show (62 : Int32) = iz 62 from rfl, iz_eq (by omega)]; exact h2) (?_))))))
  unfold m_isB_b52
  exact iteFE (by decide) rfl
theorem mB_s (ht : Tape M n) {S : MS} {at_ op cd : Nat} (h : MRd M n S at_ op cd) {k : Int} (ho : opB (ch M n at_) = some k) (b : Bool) (S1 : MS) (hs : (m_isS oM N) (sI S 14 (iz ((at_ + 1 : Nat) : Int))) = some (b, S1)) : (b = false → (m_cmpL oM N) S = some (false, S1)) ∧ (b = true → ∀ S2, m_codes S1 (iz k) = some (true, S2) → (m_cmpL oM N) S = (fun S => some (true, S)) S2) := by
  have e14 : S.1 14 + 1 = iz ((at_ + 1 : Nat) : Int) := by rw [h.2.2.1, show (1 : Int32) = iz 1 from rfl, iz_add]; rfl
  have cR := (ch_R ht at_).1
  have key : ∀ r, (m_isB_b52 oM N S (iz k)) = r → 0 ≤ k → (m_cmpL oM N) S = r := fun r hr _ => by
    unfold m_cmpL
    rcases opB_yes ho with ⟨e, rfl⟩ | ⟨e, rfl⟩ | ⟨e, rfl⟩
    · exact bindE (m_sign_iz ht h) (iteTE (by rw [e]; rfl) hr)
    · exact bindE (m_sign_iz ht h) (iteFE (by rw [show (60 : Int32) = iz 60 from rfl, iz_eq (by omega)]; omega) (bindE (m_sign_iz ht h) (iteTE (by rw [e]; rfl) hr)))
    · exact bindE (m_sign_iz ht h) (iteFE (by rw [show (60 : Int32) = iz 60 from rfl, iz_eq (by omega)]; omega) (bindE (m_sign_iz ht h) (iteFE (by rw [show (61 : Int32) = iz 61 from rfl, iz_eq (by omega)]; omega) (bindE (m_sign_iz ht h) (iteTE (by rw [e]; rfl) hr)))))
  have k0 : 0 ≤ k ∧ k ≤ 15 := by rcases opB_yes ho with ⟨e, e2⟩ | ⟨e, e2⟩ | ⟨e, e2⟩ <;> omega
  have kle : (0 : Int32) ≤ iz k := by rw [show (0 : Int32) = iz 0 from rfl, iz_le (by omega)]; exact k0.1
  constructor
  · intro hb
    refine key _ ?_ k0.1
    unfold m_isB_b52
    refine iteTE kle ?_
    rw [nmE, e14]
    exact b2E hs (iteTE (b2iF' hb) rfl)
  · intro hb S2 hc
    refine key _ ?_ k0.1
    unfold m_isB_b52
    refine iteTE kle ?_
    rw [nmE, e14]
    exact b2E hs (iteFE (b2iT' hb) (b2E hc (iteFE b2iT rfl)))
theorem rB_f {Q : rQ} {m : Nat} {T : XS} {at2 f op2 : Nat} (hf : f ≤ 1000) (h : RdX M n a0 T at2 f op2) (hQ : Q none T) : r_cmpL oR N a0 Q m T none := by
  obtain ⟨ro, r1, r2, r3, r4, r5, r6⟩ := h.ob
  unfold r_cmpL
  exact bindPE r2 (iteT (by rw [r5, show (0 : Int32) = iz 0 from rfl, iz_le (by omega)]; omega) hQ)
theorem rB_n (ht : Tape M n) {Q : rQ} {m : Nat} {T : XS} {at_ op : Nat} {l : Option Nat} (hat : at_ ≤ n) (h : RdX M n a0 T at_ (-1) op) (ho : opB (ch M n at_) = none) (hQ : Q l T) : r_cmpL oR N a0 Q m T l := by
  obtain ⟨ro, r1, r2, r3, r4, r5, r6⟩ := h.ob
  unfold r_cmpL
  refine bindPE r2 (iteF (by rw [r5]; decide) ?_)
  have hl := opB_no ho
  have e : r_one 3 T a0 = some false := by
    rw [r_one_iz ht h hat (by decide), decide_eq_false (cr_in ht (fun x hx => ?_) (fun q => ?_))]
    · simp only [litC, List.mem_cons, List.not_mem_nil, or_false] at hx; omega
    · simp only [litC, List.mem_cons, List.not_mem_nil, or_false] at q; omega
  exact bindPE r2 (bindPE e (iteT rfl hQ))
theorem rB_s (ht : Tape M n) {Q : rQ} {m : Nat} {T : XS} {at_ op : Nat} {l : Option Nat} (hat : at_ ≤ n) (h : RdX M n a0 T at_ (-1) op) {k : Int} (ho : opB (ch M n at_) = some k) {ro : XO} (hr : T.2.2.2 a0 = some ro) (hh : splP m fun m1 m2 => (fun Q m T => r_sum Q oR N a0 m T) (fun v T1 => bindP (getO T1 a0 5) fun _ => splP m2 fun m3 m4 => r_joined (fun v' T2 => (fun Q m T l => Q l T) Q m4 T2 v') a0 m3 T1 (iz (signOf k)) l v) m1 (xO T a0 (oI ro 0 (iz ((at_ + 1 : Nat) : Int))))) : r_cmpL oR N a0 Q m T l := by
  obtain ⟨ro9, r1, r2, r3, r4, r5, r6⟩ := h.ob
  rw [hr] at r1; cases r1
  obtain ⟨ok1, ok2, ok3, ok4⟩ := opB_ok _ _ ho
  have cR := ch_R ht at_
  have e4 : ro.2.1 0 + 1 = iz ((at_ + 1 : Nat) : Int) := by rw [r4, show (1 : Int32) = iz 1 from rfl, iz_add]; rfl
  have gT : getO (xO T a0 (oI ro 0 (iz ((at_ + 1 : Nat) : Int)))) a0 5 = some (oI ro 0 (iz ((at_ + 1 : Nat) : Int))) := getO_eq (by rw [xO23, if_pos rfl]) r3
  have hx := opB_yes ho
  have hc : cr M n at_ = signOf k := by rw [cr_of ht (by omega)]; exact ok2
  unfold r_cmpL
  refine bindPE r2 (iteF (by rw [r5]; decide) ?_)
  have e : r_one 3 T a0 = some true := by
    rw [r_one_iz ht h hat (by decide), decide_eq_true ?_]
    rw [cr_of ht (by omega)]
    simp only [litC, List.mem_cons, List.not_mem_nil, or_false]; omega
  refine bindPE r2 (bindPE e (iteF b2iT (bindPE r2 (bindPE (r_here_iz ht h hat) (bindPE r2 (bindPE r2 ?_))))))
  rw [hc, e4]
  exact bindPE gT hh
theorem chainB (ht : Tape M n) (hsub : ∀ (S : MS) (at_ cd : Nat), MRd M n S at_ op cd → SSpec M n a0 (m_isS oM N) (fun Q m T => r_sum Q oR N a0 m T) S at_ op cd) (S : MS) (at_ cd : Nat) (hS : MRd M n S at_ op cd) : LSpec M n a0 (m_cmpL oM N) (r_cmpL oR N a0) S at_ op cd := by
  have hat := hS.2.2.2.2.2.1
  refine step_spec ht opB_ok hsub (contM := fun S => some (true, S)) (contR := fun Q m T l => Q l T) hS (mB_n ht hS) (fun k ho b S1 hs => mB_s ht hS ho b S1 hs) (fun ho Q m T q1 hT hQ => rB_n ht hat hT ho hQ) (fun k ho Q m T q1 ro hT hr hh => rB_s ht hat hT ho hr hh) (fun _ Q m T at2 f op2 _ _ hQ => hQ) (fun _ S2 at2 cd2 _ _ => rfl) (fun S2 at2 cd2 _ hS2 => ?_)
  exact ⟨true, true, at2, [], S2, rfl, ⟨KP.rf S2, hS2.2.2.1, ⟨Nat.le_refl _, hS2.2.2.2.2.2.1⟩, fun _ => ⟨hS2.2.2.2.1, hS2.2.2.2.2.1, by simp, Cds.nil S2 cd2⟩, fun _ z => (by cases z), fun _ => rfl⟩, fun Q m T q1 c1 D hT hn hm hQ => hQ T _ (Ext.rf a0 T) (Or.inl ⟨rfl, hT, q1, rfl, by rw [List.append_nil]; exact hn.to (by omega)⟩)⟩
theorem ruleB (ht : Tape M n) (hN : 200 ≤ N) (hsub : ∀ (S : MS) (at_ cd : Nat), MRd M n S at_ op cd → SSpec M n a0 (m_isS oM N) (fun Q m T => r_sum Q oR N a0 m T) S at_ op cd) {S : MS} {at_ cd : Nat} (hS : MRd M n S at_ op cd) : SSpec M n a0 (m_isB oM N) (fun Q m T => r_compared Q oR N a0 m T) S at_ op cd := by
  refine seq_spec ht (loopM := m_cmpL oM N) (loopR := (r_cmpL oR N a0)) hsub (fun S => rfl) (fun Q m T at_ op hT hh => ?_) (fun Q m T at2 f op2 hf hX hQ => ?_) (fun S2 at2 cd2 hS2 hd => ?_) (fun S2 at2 cd2 hS2 => chainB ht hsub S2 at2 cd2 hS2) hS
  · obtain ⟨ro, r1, r2, -⟩ := hT.ob
    exact bindPE r2 hh
  · exact rB_f hf hX hQ
  · exact mB_n ht hS2 (opB_dg hd)
theorem mA_n (ht : Tape M n) {fu : Nat} {S : MS} {at_ op cd : Nat} (h : MRd M n S at_ op cd) (ho : opA (ch M n at_) = none) : (m_isA_b9 oM N (fu + 1)) S = some (true, S) := by
  rw [m_isA_b9]
  exact b2E (show m_is S 38 = some (false, S) from m_isF ht h (c := 38) (by omega) (opA_no ho)) (iteTE rfl rfl)
theorem mA_s (ht : Tape M n) {fu : Nat} {S : MS} {at_ op cd : Nat} (h : MRd M n S at_ op cd) {k : Int} (ho : opA (ch M n at_) = some k) (b : Bool) (S1 : MS) (hs : (m_isB oM N) (sI S 14 (iz ((at_ + 1 : Nat) : Int))) = some (b, S1)) : (b = false → (m_isA_b9 oM N (fu + 1)) S = some (false, S1)) ∧ (b = true → ∀ S2, m_codes S1 (iz k) = some (true, S2) → (m_isA_b9 oM N (fu + 1)) S = (m_isA_b9 oM N fu) S2) := by
  have e14 : S.1 14 + 1 = iz ((at_ + 1 : Nat) : Int) := by rw [h.2.2.1, show (1 : Int32) = iz 1 from rfl, iz_add]; rfl
  have cR := (ch_R ht at_).1
  obtain ⟨e, rfl⟩ := opA_yes ho
  have hi : m_is S 38 = some (true, sI S 14 (iz ((at_ + 1 : Nat) : Int))) := m_isT ht h (c := 38) (by omega) e
  rw [m_isA_b9]
  exact ⟨fun hb => b2E hi (iteFE b2iT (b2E hs (iteTE (b2iF' hb) rfl))), fun hb S2 hc => b2E hi (iteFE b2iT (b2E hs (iteFE (b2iT' hb) (b2E hc rfl))))⟩
theorem rA_f {fu : Nat} {Q : rQ} {m : Nat} {T : XS} {at2 f op2 : Nat} (hf : f ≤ 1000) (h : RdX M n a0 T at2 f op2) (hQ : Q none T) : r_all_b5 Q oR N a0 (fu + 1) m T none := by
  obtain ⟨ro, r1, r2, r3, r4, r5, r6⟩ := h.ob
  rw [r_all_b5]
  exact bindPE r2 (iteT (by rw [r5, show (0 : Int32) = iz 0 from rfl, iz_le (by omega)]; omega) hQ)
theorem rA_n (ht : Tape M n) {fu : Nat} {Q : rQ} {m : Nat} {T : XS} {at_ op : Nat} {l : Option Nat} (hat : at_ ≤ n) (h : RdX M n a0 T at_ (-1) op) (ho : opA (ch M n at_) = none) (hQ : Q l T) : r_all_b5 Q oR N a0 (fu + 1) m T l := by
  obtain ⟨ro, r1, r2, r3, r4, r5, r6⟩ := h.ob
  rw [r_all_b5]
  refine bindPE r2 (iteF (by rw [r5]; decide) ?_)
  have cR := ch_R ht at_
  have hl := opA_no ho
  refine bindPE r2 (bindPE (r_here_iz ht h hat) (iteF (by rw [show (38 : Int32) = iz 38 from rfl, iz_eq (by omega)]; omega) hQ))
theorem rA_s (ht : Tape M n) {fu : Nat} {Q : rQ} {m : Nat} {T : XS} {at_ op : Nat} {l : Option Nat} (hat : at_ ≤ n) (h : RdX M n a0 T at_ (-1) op) {k : Int} (ho : opA (ch M n at_) = some k) {ro : XO} (hr : T.2.2.2 a0 = some ro) (hh : splP m fun m1 m2 => (fun Q m T => r_compared Q oR N a0 m T) (fun v T1 => bindP (getO T1 a0 5) fun _ => splP m2 fun m3 m4 => r_joined (fun v' T2 => (fun Q m T l => r_all_b5 Q oR N a0 fu m T l) Q m4 T2 v') a0 m3 T1 (iz (signOf k)) l v) m1 (xO T a0 (oI ro 0 (iz ((at_ + 1 : Nat) : Int))))) : r_all_b5 Q oR N a0 (fu + 1) m T l := by
  obtain ⟨ro9, r1, r2, r3, r4, r5, r6⟩ := h.ob
  rw [hr] at r1; cases r1
  obtain ⟨ok1, ok2, ok3, ok4⟩ := opA_ok _ _ ho
  have cR := ch_R ht at_
  have e4 : ro.2.1 0 + 1 = iz ((at_ + 1 : Nat) : Int) := by rw [r4, show (1 : Int32) = iz 1 from rfl, iz_add]; rfl
  have gT : getO (xO T a0 (oI ro 0 (iz ((at_ + 1 : Nat) : Int)))) a0 5 = some (oI ro 0 (iz ((at_ + 1 : Nat) : Int))) := getO_eq (by rw [xO23, if_pos rfl]) r3
  have hx := opA_yes ho
  have hc : cr M n at_ = signOf k := by rw [cr_of ht (by omega)]; exact ok2
  rw [r_all_b5]
  refine bindPE r2 (iteF (by rw [r5]; decide) ?_)
  refine bindPE r2 (bindPE (r_here_iz ht h hat) (iteT (by rw [hc, ← ok2]; rcases hx with ⟨e, -⟩; rw [e]; rfl) (bindPE r2 (bindPE r2 ?_))))
  rw [e4]
  obtain ⟨-, rfl⟩ := hx
  rw [show iz (signOf 7) = (38 : Int32) from rfl] at hh
  exact bindPE gT hh
theorem chainA (ht : Tape M n) (hsub : ∀ (S : MS) (at_ cd : Nat), MRd M n S at_ op cd → SSpec M n a0 (m_isB oM N) (fun Q m T => r_compared Q oR N a0 m T) S at_ op cd) : ∀ (fu : Nat) (S : MS) (at_ cd : Nat), MRd M n S at_ op cd → n - at_ < fu → LSpec M n a0 (m_isA_b9 oM N fu) (fun Q m T l => r_all_b5 Q oR N a0 fu m T l) S at_ op cd := by
  intro fu
  induction fu with
  | zero => intro S at_ cd _ h; omega
  | succ fu ih =>
    intro S at_ cd hS hf
    have hat := hS.2.2.2.2.2.1
    exact step_spec ht opA_ok hsub hS (mA_n ht hS) (fun k ho b S1 hs => mA_s ht hS ho b S1 hs) (fun ho Q m T q1 hT hQ => rA_n ht hat hT ho hQ) (fun k ho Q m T q1 ro hT hr hh => rA_s ht hat hT ho hr hh) (fun hn Q m T at2 f op2 hf2 hX hQ => by
      obtain ⟨fu, rfl⟩ : ∃ g, fu = g + 1 := ⟨fu - 1, by omega⟩
      exact rA_f hf2 hX hQ) (fun hn S2 at2 cd2 hS2 hd => by
      obtain ⟨fu, rfl⟩ : ∃ g, fu = g + 1 := ⟨fu - 1, by omega⟩
      exact mA_n ht hS2 (opA_dg hd)) (fun S2 at2 cd2 hlt hS2 => ih S2 at2 cd2 hS2 (by have := hS2.2.2.2.2.2.1; omega))
theorem ruleA (ht : Tape M n) (hN : 200 ≤ N) (hsub : ∀ (S : MS) (at_ cd : Nat), MRd M n S at_ op cd → SSpec M n a0 (m_isB oM N) (fun Q m T => r_compared Q oR N a0 m T) S at_ op cd) {S : MS} {at_ cd : Nat} (hS : MRd M n S at_ op cd) : SSpec M n a0 (m_isA oM N) (fun Q m T => r_all Q oR N a0 m T) S at_ op cd := by
  refine seq_spec ht (loopM := m_isA_b9 oM N N) (loopR := (fun Q m T l => r_all_b5 Q oR N a0 N m T l)) hsub (fun S => rfl) (fun Q m T at_ op hT hh => ?_) (fun Q m T at2 f op2 hf hX hQ => ?_) (fun S2 at2 cd2 hS2 hd => ?_) (fun S2 at2 cd2 hS2 => chainA ht hsub N S2 at2 cd2 hS2 (by have := ht.2.1; omega)) hS
  · obtain ⟨ro, r1, r2, -⟩ := hT.ob
    exact bindPE r2 hh
  · obtain ⟨N, rfl⟩ : ∃ g, N = g + 1 := ⟨N - 1, by omega⟩
    exact rA_f hf hX hQ
  · obtain ⟨N, rfl⟩ : ∃ g, N = g + 1 := ⟨N - 1, by omega⟩
    exact mA_n ht hS2 (opA_dg hd)
theorem mE_n (ht : Tape M n) {fu : Nat} {S : MS} {at_ op cd : Nat} (h : MRd M n S at_ op cd) (ho : opE (ch M n at_) = none) : (m_isE_b9 oM N (fu + 1)) S = some (true, S) := by
  rw [m_isE_b9]
  exact b2E (show m_is S 124 = some (false, S) from m_isF ht h (c := 124) (by omega) (opE_no ho)) (iteTE rfl rfl)
theorem mE_s (ht : Tape M n) {fu : Nat} {S : MS} {at_ op cd : Nat} (h : MRd M n S at_ op cd) {k : Int} (ho : opE (ch M n at_) = some k) (b : Bool) (S1 : MS) (hs : (m_isA oM N) (sI S 14 (iz ((at_ + 1 : Nat) : Int))) = some (b, S1)) : (b = false → (m_isE_b9 oM N (fu + 1)) S = some (false, S1)) ∧ (b = true → ∀ S2, m_codes S1 (iz k) = some (true, S2) → (m_isE_b9 oM N (fu + 1)) S = (m_isE_b9 oM N fu) S2) := by
  have e14 : S.1 14 + 1 = iz ((at_ + 1 : Nat) : Int) := by rw [h.2.2.1, show (1 : Int32) = iz 1 from rfl, iz_add]; rfl
  have cR := (ch_R ht at_).1
  obtain ⟨e, rfl⟩ := opE_yes ho
  have hi : m_is S 124 = some (true, sI S 14 (iz ((at_ + 1 : Nat) : Int))) := m_isT ht h (c := 124) (by omega) e
  rw [m_isE_b9]
  exact ⟨fun hb => b2E hi (iteFE b2iT (b2E hs (iteTE (b2iF' hb) rfl))), fun hb S2 hc => b2E hi (iteFE b2iT (b2E hs (iteFE (b2iT' hb) (b2E hc rfl))))⟩
theorem rE_f {fu : Nat} {Q : rQ} {m : Nat} {T : XS} {at2 f op2 : Nat} (hf : f ≤ 1000) (h : RdX M n a0 T at2 f op2) (hQ : Q none T) : r_either_b5 Q oR N a0 (fu + 1) m T none := by
  obtain ⟨ro, r1, r2, r3, r4, r5, r6⟩ := h.ob
  rw [r_either_b5]
  exact bindPE r2 (iteT (by rw [r5, show (0 : Int32) = iz 0 from rfl, iz_le (by omega)]; omega) hQ)
theorem rE_n (ht : Tape M n) {fu : Nat} {Q : rQ} {m : Nat} {T : XS} {at_ op : Nat} {l : Option Nat} (hat : at_ ≤ n) (h : RdX M n a0 T at_ (-1) op) (ho : opE (ch M n at_) = none) (hQ : Q l T) : r_either_b5 Q oR N a0 (fu + 1) m T l := by
  obtain ⟨ro, r1, r2, r3, r4, r5, r6⟩ := h.ob
  rw [r_either_b5]
  refine bindPE r2 (iteF (by rw [r5]; decide) ?_)
  have cR := ch_R ht at_
  have hl := opE_no ho
  refine bindPE r2 (bindPE (r_here_iz ht h hat) (iteF (by rw [show (124 : Int32) = iz 124 from rfl, iz_eq (by omega)]; omega) hQ))
theorem rE_s (ht : Tape M n) {fu : Nat} {Q : rQ} {m : Nat} {T : XS} {at_ op : Nat} {l : Option Nat} (hat : at_ ≤ n) (h : RdX M n a0 T at_ (-1) op) {k : Int} (ho : opE (ch M n at_) = some k) {ro : XO} (hr : T.2.2.2 a0 = some ro) (hh : splP m fun m1 m2 => (fun Q m T => r_all Q oR N a0 m T) (fun v T1 => bindP (getO T1 a0 5) fun _ => splP m2 fun m3 m4 => r_joined (fun v' T2 => (fun Q m T l => r_either_b5 Q oR N a0 fu m T l) Q m4 T2 v') a0 m3 T1 (iz (signOf k)) l v) m1 (xO T a0 (oI ro 0 (iz ((at_ + 1 : Nat) : Int))))) : r_either_b5 Q oR N a0 (fu + 1) m T l := by
  obtain ⟨ro9, r1, r2, r3, r4, r5, r6⟩ := h.ob
  rw [hr] at r1; cases r1
  obtain ⟨ok1, ok2, ok3, ok4⟩ := opE_ok _ _ ho
  have cR := ch_R ht at_
  have e4 : ro.2.1 0 + 1 = iz ((at_ + 1 : Nat) : Int) := by rw [r4, show (1 : Int32) = iz 1 from rfl, iz_add]; rfl
  have gT : getO (xO T a0 (oI ro 0 (iz ((at_ + 1 : Nat) : Int)))) a0 5 = some (oI ro 0 (iz ((at_ + 1 : Nat) : Int))) := getO_eq (by rw [xO23, if_pos rfl]) r3
  have hx := opE_yes ho
  have hc : cr M n at_ = signOf k := by rw [cr_of ht (by omega)]; exact ok2
  rw [r_either_b5]
  refine bindPE r2 (iteF (by rw [r5]; decide) ?_)
  refine bindPE r2 (bindPE (r_here_iz ht h hat) (iteT (by rw [hc, ← ok2]; rcases hx with ⟨e, -⟩; rw [e]; rfl) (bindPE r2 (bindPE r2 ?_))))
  rw [e4]
  obtain ⟨-, rfl⟩ := hx
  rw [show iz (signOf 6) = (124 : Int32) from rfl] at hh
  exact bindPE gT hh
theorem chainE (ht : Tape M n) (hsub : ∀ (S : MS) (at_ cd : Nat), MRd M n S at_ op cd → SSpec M n a0 (m_isA oM N) (fun Q m T => r_all Q oR N a0 m T) S at_ op cd) : ∀ (fu : Nat) (S : MS) (at_ cd : Nat), MRd M n S at_ op cd → n - at_ < fu → LSpec M n a0 (m_isE_b9 oM N fu) (fun Q m T l => r_either_b5 Q oR N a0 fu m T l) S at_ op cd := by
  intro fu
  induction fu with
  | zero => intro S at_ cd _ h; omega
  | succ fu ih =>
    intro S at_ cd hS hf
    have hat := hS.2.2.2.2.2.1
    exact step_spec ht opE_ok hsub hS (mE_n ht hS) (fun k ho b S1 hs => mE_s ht hS ho b S1 hs) (fun ho Q m T q1 hT hQ => rE_n ht hat hT ho hQ) (fun k ho Q m T q1 ro hT hr hh => rE_s ht hat hT ho hr hh) (fun hn Q m T at2 f op2 hf2 hX hQ => by
      obtain ⟨fu, rfl⟩ : ∃ g, fu = g + 1 := ⟨fu - 1, by omega⟩
      exact rE_f hf2 hX hQ) (fun hn S2 at2 cd2 hS2 hd => by
      obtain ⟨fu, rfl⟩ : ∃ g, fu = g + 1 := ⟨fu - 1, by omega⟩
      exact mE_n ht hS2 (opE_dg hd)) (fun S2 at2 cd2 hlt hS2 => ih S2 at2 cd2 hS2 (by have := hS2.2.2.2.2.2.1; omega))
theorem ruleE (ht : Tape M n) (hN : 200 ≤ N) (hsub : ∀ (S : MS) (at_ cd : Nat), MRd M n S at_ op cd → SSpec M n a0 (m_isA oM N) (fun Q m T => r_all Q oR N a0 m T) S at_ op cd) {S : MS} {at_ cd : Nat} (hS : MRd M n S at_ op cd) : SSpec M n a0 (m_isE oM N) (fun Q m T => r_either Q oR N a0 m T) S at_ op cd := by
  refine seq_spec ht (loopM := m_isE_b9 oM N N) (loopR := (fun Q m T l => r_either_b5 Q oR N a0 N m T l)) hsub (fun S => rfl) (fun Q m T at_ op hT hh => ?_) (fun Q m T at2 f op2 hf hX hQ => ?_) (fun S2 at2 cd2 hS2 hd => ?_) (fun S2 at2 cd2 hS2 => chainE ht hsub N S2 at2 cd2 hS2 (by have := ht.2.1; omega)) hS
  · obtain ⟨ro, r1, r2, -⟩ := hT.ob
    exact bindPE r2 hh
  · obtain ⟨N, rfl⟩ : ∃ g, N = g + 1 := ⟨N - 1, by omega⟩
    exact rE_f hf hX hQ
  · obtain ⟨N, rfl⟩ : ∃ g, N = g + 1 := ⟨N - 1, by omega⟩
    exact mE_n ht hS2 (opE_dg hd)
theorem rulesE (ht : Tape M n) (hN : 200 ≤ N) (ho : ∀ (S : MS) (at_ cd : Nat), MRd M n S at_ op cd → SSpec M n a0 oM (fun Q m T => oR Q a0 m T) S at_ op cd) {S : MS} {at_ cd : Nat} (hS : MRd M n S at_ op cd) : SSpec M n a0 (m_isE oM N) (fun Q m T => r_either Q oR N a0 m T) S at_ op cd :=
  ruleE ht hN (fun _ _ _ h => ruleA ht hN (fun _ _ _ h => ruleB ht hN (fun _ _ _ h => ruleS ht hN (fun _ _ _ h => ruleP ht hN ho h) h) h) h) hS
end RULES
