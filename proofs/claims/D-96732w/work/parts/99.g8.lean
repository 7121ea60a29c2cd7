/-! PLAIN LAW: the law's reader: the lines. Own text. -/
set_option maxRecDepth 100000
/-- old objects stand -/
def Old (X T : XS) : Prop := T.1 = X.1 ∧ T.2.1 = X.2.1 ∧ T.2.2.1 = X.2.2.1 ∧ ∀ (a : Nat) (o : XO), X.2.2.2 a = some o → T.2.2.2 a = some o
theorem Old.ext {X T T' : XS} {a0 : Nat} (h : Old X T) (g : Ext a0 T T') (h0 : X.2.2.2 a0 = none) : Old X T' := ⟨g.1.trans h.1, g.2.1.trans h.2.1, g.2.2.1.trans h.2.2.1, fun a o ha => g.2.2.2 a o (fun e => by rw [e, h0] at ha; cases ha) (h.2.2.2 a o ha)⟩
theorem Old.put {X T : XS} {q : Nat} (h : Old X T) (h0 : X.2.2.2 q = none) (x : XO) : Old X (xO T q x) := ⟨h.1, h.2.1, h.2.2.1, fun a o ha => by
  rw [xO23, if_neg (fun e => by rw [e, h0] at ha; cases ha)]; exact h.2.2.2 a o ha⟩
theorem Old.non {X T : XS} (h : Old X T) {q : Nat} (hq : T.2.2.2 q = none) : X.2.2.2 q = none := by
  cases e : X.2.2.2 q with
  | none => rfl
  | some o => rw [h.2.2.2 q o e] at hq; cases hq
/-- the chain -/
def Chn (T : XS) (S : MS) (cd L : Nat) (A : Nat → Nat) : Prop := ∀ i, i < L → lnOK T S cd i (A i) (if i + 1 < L then some (A (i + 1)) else none)
theorem slc.kp {S S' : MS} {cd i j : Nat} {c : List Int} (h : slc S i j c) (hj : j ≤ cd) (h21 : ∀ k, k < cd → ma S' 21 k = ma S 21 k) : slc S' i j c := ⟨h.1, fun k hk => by rw [h21 _ (by have := h.1; omega)]; exact h.2 k hk⟩
theorem lnOK.kp {T T' : XS} {S S' : MS} {cd cd' i a : Nat} {nx : Option Nat} (h : lnOK T S cd i a nx) (hn : ∀ d b c, nodeR T d b c → nodeR T' d b c) (ha : T'.2.2.2 a = T.2.2.2 a) (hcd : cd ≤ cd') (h18 : ∀ r, r = 18 ∨ r = 19 ∨ r = 20 → ma S' r i = ma S r i) (h21 : ∀ k, k < cd → ma S' 21 k = ma S 21 k) : lnOK T' S' cd' i a nx := by
  obtain ⟨o, h1, h2, h3, s, md, en, ⟨e1, e2, e3⟩, h4, ⟨g, c, h5, h6, h7⟩, h8⟩ := h
  have hmd : md ≤ en := by have := h7.1; omega
  refine ⟨o, ha.trans h1, h2, h3, s, md, en, ⟨(h18 18 (by omega)).trans e1, (h18 19 (by omega)).trans e2, (h18 20 (by omega)).trans e3⟩, by omega, ⟨g, c, h5, hn _ _ _ h6, h7.kp h4 h21⟩, ?_⟩
  rcases h8 with h8 | ⟨t, c', y1, y2, y3, y4⟩
  · exact Or.inl h8
  · exact Or.inr ⟨t, c', y1, hn _ _ _ y2, y3.kp (by omega) h21, y4⟩
section LINES
variable {M : MS} {n a0 : Nat} {N : Nat}
theorem b49_F {Q : rQ} {oX : rO} {l1 : Option Nat} {m : Nat} {T : XS} {at2 f op2 : Nat} (hf : f ≤ 1000) (h : RdX M n a0 T at2 f op2) (hQ : Q l1 T) : r_lines_b49 Q oX N a0 l1 m T := by
  obtain ⟨ro, r1, r2, r3, r4, r5, r6⟩ := h.ob
  exact bindPE r2 (iteT (by rw [r5, show (0 : Int32) = iz 0 from rfl, iz_le (by omega)]; omega) hQ)
theorem b7_F {Q : rQ} {oX : rO} {l1 l2 : Option Nat} {fu m : Nat} {T : XS} {at2 f op2 : Nat} (hf : f ≤ 1000) (h : RdX M n a0 T at2 f op2) (hQ : Q l1 T) : r_lines_b7 Q oX N a0 l1 (fu + 1) m T l2 := by
  obtain ⟨ro, r1, r2, r3, r4, r5, r6⟩ := h.ob
  rw [r_lines_b7]
  exact bindPE r2 (iteT (by rw [r5, show (0 : Int32) = iz 0 from rfl, iz_le (by omega)]; omega) (b49_F hf h hQ))
theorem b7_E (ht : Tape M n) {Q : rQ} {oX : rO} {l1 l2 : Option Nat} {fu m : Nat} {T : XS} {at_ op : Nat} (h : RdX M n a0 T at_ (-1) op) (hat : at_ ≤ n) (h59 : ch M n at_ ≠ 59) (h1 : at_ = n → Q l1 T) (h2 : at_ < n → ∀ T', Ext a0 T T' → RdX M n a0 T' at_ at_ op → Q l1 T') : r_lines_b7 Q oX N a0 l1 (fu + 1) m T l2 := by
  have n120 := ht.2.1
  obtain ⟨ro, r1, r2, r3, r4, r5, r6⟩ := h.ob
  rw [r_lines_b7]
  refine bindPE r2 (iteF (by rw [r5]; decide) (bindPE r2 (bindPE (r_here_iz ht h hat) (iteF (fun z => h59 ((cr_eq ht (c := 59) (by omega)).mp z)) ?_))))
  unfold r_lines_b49
  refine bindPE r2 (iteF (by rw [r5]; decide) (bindPE r2 (bindPE r2 ?_)))
  by_cases c : at_ = n
  · exact iteT (by rw [h.1, r4, iz_le (by omega)]; omega) (h1 c)
  · refine iteF (by rw [h.1, r4, iz_le (by omega)]; omega) (bindPE r2 (bindPE r2 ?_))
    rw [r4]
    exact h2 (by omega) _ ((Ext.rf a0 T).own _) (h.fa r1 _)
/-- what is to be at the end -/
def End (M : MS) (n : Nat) (S0 : MS) (x : Option (Int32 × MS)) (N : Nat) (comp : rQ → Prop) (a0 : Nat) (X : XS) : Prop :=
  (∃ (S' : MS) (cd' L' : Nat), x = m_law_b66 N S' 1 ∧ KL S0 S' ∧ S'.1 16 = iz cd' ∧ cd' ≤ 120 ∧ S'.1 17 = iz L' ∧ (1 ≤ L' ∧ L' ≤ 60) ∧ ∀ Q : rQ, (∀ (T' : XS) (A' : Nat → Nat), Old X T' → RdX M n a0 T' n (-1) 0 → Chn T' S' cd' L' A' → Q (some (A' 0)) T') → comp Q) ∨
  (∃ (S' : MS) (at' : Nat), x = m_law_b66 N S' 0 ∧ KL S0 S' ∧ S'.1 14 = iz at' ∧ at' ≤ n ∧ ∀ Q : rQ, (∀ (g : Option Nat) (T' : XS) (at2 op2 : Nat), Old X T' → RdX M n a0 T' at2 at' op2 → Q g T') → comp Q)
/-- one who walks the chain -/
def Cmp (X : XS) (M : MS) (n a0 at_ : Nat) (S : MS) (cd L : Nat) (loop : Nat → rQ → Nat → XS → Option Nat → Prop) (mm : Nat) (Q : rQ) : Prop := ∀ (m : Nat) (T : XS) (A : Nat → Nat), mm ≤ m → Old X T → X.2.2.2 (A (L - 1)) = none → RdX M n a0 T at_ (-1) 0 → Chn T S cd L A → loop (A 0) Q m T (some (A (L - 1)))
theorem lines_loop {X : XS} (hX0 : X.2.2.2 a0 = none) (ht : Tape M n) (hN : 200 ≤ N) {oX : rO} (ho : ∀ (S : MS) (at_ cd : Nat), MRd M n S at_ 0 cd → SSpec M n a0 (m_isO N 10) (fun Q m T => oX Q a0 m T) S at_ 0 cd) : ∀ (fu : Nat) (S : MS) (at_ cd L : Nat), MRd M n S at_ 0 cd → S.1 17 = iz L → 1 ≤ L → 2 * L ≤ at_ + 1 → n - at_ < fu →
    End M n S (m_law_b25 N fu S 1) N (Cmp X M n a0 at_ S cd L (fun hd Q m T l => r_lines_b7 Q oX N a0 (some hd) fu m T l) (2 * (n - at_))) a0 X := by
  have n120 := ht.2.1
  intro fu
  induction fu with
  | zero => intro S at_ cd L _ _ _ _ h; omega
  | succ fu ih =>
    intro S at_ cd L hS h17 hL hL2 hf
    obtain ⟨s1, s2, s3, s4, s5, s6, s7, s8⟩ := id hS
    have one : ¬ (1 : Int32) = 0 := by decide
    by_cases c59 : ch M n at_ = 59
    · have atn := (ch_R ht at_).2.2.2.2 (by omega)
      have hS3 : MRd M n (sI S 14 (iz ((at_ + 1 : Nat) : Int))) (at_ + 1) 0 cd := hS.mv ((KP.rf S).set (Or.inl rfl) _) rfl s4 s5 (by omega) (by omega) s8
      have kl3 : KL S (sI S 14 (iz ((at_ + 1 : Nat) : Int))) := ((KP.rf S).set (Or.inl rfl) _).kl
      obtain ⟨b, ok, at1, cd1, S1, g1, ⟨g2, g3, g4, g5, g6, g7⟩, g8⟩ := line_spec ht hN ho hS3 (i := L) h17 (by omega)
      have hm : m_law_b25 N (fu + 1) S 1 = m_law_b25 N fu S1 (b2i b) := by
        rw [m_law_b25]
        exact iteFE one (b2E (m_isT ht hS (c := 59) (by omega) c59) (iteFE b2iT (b2E g1 rfl)))
      obtain ⟨fu, rfl⟩ : ∃ g, fu = g + 1 := ⟨fu - 1, by omega⟩
      -- the component, its head
      have hr : ∀ (Q : rQ) (mm : Nat), 1 + (at1 - (at_ + 1)) ≤ 2 * (n - at_) - mm → mm ≤ 2 * (n - at_) → (∀ (m : Nat) (T T8 : XS) (A : Nat → Nat) (q : Nat) (o : XO), mm ≤ m → Old X T8 → Old X T → Chn T S cd L A → X.2.2.2 (A (L - 1)) = none → A (L - 1) ≠ a0 → (∃ r : XO, T.2.2.2 a0 = some r ∧ r.1 = 5) → X.2.2.2 q = none → T.2.2.2 q = none → Ext a0 T T8 → LnOut M n a0 S1 L cd1 ok at1 T8 q → T.2.2.2 (A (L - 1)) = some o → o.1 = 6 → r_lines_b7 Q oX N a0 (some (A 0)) (fu + 1) m (xO T8 (A (L - 1)) (oR o 2 (some q))) (some q)) → Cmp X M n a0 at_ S cd L (fun hd Q m T l => r_lines_b7 Q oX N a0 (some hd) (fu + 1 + 1) m T l) (2 * (n - at_)) Q := fun Q mm h1 hmm h2 m T A hm hO hXA hT hC => by
        obtain ⟨ro, r1, r2, r3, r4, r5, r6⟩ := hT.ob
        show r_lines_b7 _ oX N a0 (some (A 0)) (fu + 1 + 1) m T (some (A (L - 1)))
        rw [r_lines_b7]
        refine bindPE r2 (iteF (by rw [r5]; decide) (bindPE r2 (bindPE (r_here_iz ht hT s6) (iteT ((cr_eq ht (c := 59) (by omega)).mpr c59) (bindPE r2 (bindPE r2 ?_))))))
        have hT1 := bump hT r1
        have hE1 : Ext a0 T (xO T a0 (oI ro 0 (ro.2.1 0 + 1))) := (Ext.rf a0 _).own _
        obtain ⟨ro2, z1, z2, z3, z4, z5, z6⟩ := hT1.ob
        obtain ⟨o, o1, o2, -⟩ := hC (L - 1) (by omega)
        have aL : A (L - 1) ≠ a0 := fun e => by rw [e, r1] at o1; cases o1; omega
        refine bindPE z2 ⟨1 + (at1 - (at_ + 1)), m - (1 + (at1 - (at_ + 1))), by omega, g8 _ _ _ hT1 (Nat.le_refl _) (fun T8 q hq hE hOut => ?_)⟩
        have hq' : T.2.2.2 q = none := by
          rw [xO23] at hq
          by_cases e : q = a0
          · rw [if_pos e] at hq; cases hq
          · rw [if_neg e] at hq; exact hq
        have hE8 := hE1.tr hE
        have o8 := hE8.2.2.2 _ o aL o1
        refine bindPE rfl (bindPE (getO_eq o8 o2) (bindPE (v := oR o 2 (some q)) (getO_eq (by rw [xO23, if_pos rfl]) o2) ?_))
        exact h2 _ T T8 A q o (by omega) (hO.ext hE8 hX0) hO hC hXA aL ⟨ro, r1, r3⟩ (hO.non hq') hq' hE8 hOut o1 o2
      by_cases hok : ok = false
      · -- the component has a fault
        have fin : ∀ x : Option (Int32 × MS), x = m_law_b66 N S1 0 → End M n S x N (Cmp X M n a0 at_ S cd L (fun hd Q m T l => r_lines_b7 Q oX N a0 (some hd) (fu + 1 + 1) m T l) (2 * (n - at_))) a0 X := fun x hx => by
          refine Or.inr ⟨S1, at1, hx, kl3.tr g2, g3, by omega, fun Q hQ => hr Q 0 (by omega) (by omega) (fun m T T8 A q o _ hO8 hO hC hXA aL _ hXq hq hE hOut o1 o2 => ?_)⟩
          rcases hOut with ⟨y, -⟩ | ⟨-, at2, op2, hX⟩
          · rw [hok] at y; cases y
          · exact b7_F (by omega) (hX.oth aL _) (hQ _ _ at2 op2 (hO8.put hXA _) (hX.oth aL _))
        by_cases hb : b = false
        · refine fin _ (hm.trans ?_)
          rw [hb, m_law_b25]
          exact iteTE b2iF (iteTE b2iF rfl)
        · have hb' : b = true := by cases b with
            | false => exact absurd rfl hb
            | true => rfl
          have dg := g6 hb' hok
          obtain ⟨q1, q2, q3, q4, q5, q6⟩ := g5 hb'
          have at1n := (ch_R ht at1).2.2.2.2 (by omega)
          refine fin _ (hm.trans ?_)
          rw [m_law_b25]
          refine iteFE (b2iT' hb') (b2E (m_isF ht q2 (c := 59) (by omega) (by omega)) (iteTE b2iF (iteFE (b2iT' hb') (iteFE ?_ rfl))))
          rw [q2.1, g3, iz_eq (by omega)]; omega
      have hok' : ok = true := by cases ok with
        | false => exact absurd rfl hok
        | true => rfl
      have hb' := g7 hok'
      obtain ⟨q1, q2, q3, q4, q5, q6⟩ := g5 hb'
      have e1 : m_law_b25 N (fu + 1 + 1) S 1 = m_law_b25 N (fu + 1) S1 1 := by rw [hm, hb']; rfl
      rw [e1]
      have key := ih S1 at1 cd1 (L + 1) q2 q3 (by omega) (by omega) (by omega)
      have comp : ∀ Q : rQ, Cmp X M n a0 at1 S1 cd1 (L + 1) (fun hd Q m T l => r_lines_b7 Q oX N a0 (some hd) (fu + 1) m T l) (2 * (n - at1)) Q → Cmp X M n a0 at_ S cd L (fun hd Q m T l => r_lines_b7 Q oX N a0 (some hd) (fu + 1 + 1) m T l) (2 * (n - at_)) Q := fun Q hQ => by
        refine hr Q (2 * (n - at1)) (by omega) (by omega) (fun m T T8 A q o hm hO8 hO hC hXA aL ⟨rr, rr1, rr5⟩ hXq hq hE hOut o1 o2 => ?_)
        rcases hOut with ⟨y, hX, hln⟩ | ⟨y, -⟩
        · have o8 := hE.2.2.2 _ o aL o1
          have qne : ∀ i, i < L → A i ≠ q := fun i hi e => by
            obtain ⟨oi, u1, -⟩ := hC i hi
            rw [e, hq] at u1; cases u1
          have aNe : ∀ i, i + 1 < L → A i ≠ A (L - 1) := fun i hi e => by
            obtain ⟨oi, u1, -, u3, -⟩ := hC i (by omega)
            obtain ⟨oj, v1, -, v3, -⟩ := hC (L - 1) (by omega)
            rw [e, v1] at u1; cases u1
            rw [if_pos hi] at u3
            rw [if_neg (by omega), u3] at v3; cases v3
          have hnod : ∀ d b c, nodeR T d b c → nodeR (xO T8 (A (L - 1)) (oR o 2 (some q))) d b c := fun d b c h => by
            refine nodeR.cg (fun b ob hb ht => ?_) d b c h
            have nb : b ≠ A (L - 1) := fun e => by rw [e, o1] at hb; cases hb; omega
            rw [xO23, if_neg nb]
            exact hE.2.2.2 b ob (fun e => by rw [e, rr1] at hb; cases hb; omega) hb
          have hC' : Chn (xO T8 (A (L - 1)) (oR o 2 (some q))) S1 cd1 (L + 1) (fun i => if i = L then q else A i) := fun i hi => by
            by_cases c : i = L
            · subst c
              simp only [if_true, if_neg (show ¬ (i + 1 < i + 1) by omega)]
              refine hln.kp (fun d b c h => nodeR.oth o8 o2 _ h) ?_ (Nat.le_refl _) (fun _ _ => rfl) (fun _ _ => rfl)
              rw [xO23, if_neg (Ne.symm (qne (i - 1) (by omega)))]
            · have hi' : i < L := by omega
              simp only [if_neg c, if_pos (show i + 1 < L + 1 by omega)]
              by_cases cl : i + 1 = L
              · have ei : i = L - 1 := by omega
                rw [if_pos cl]
                obtain ⟨oi, u1, u2, u3, s, md, en, u4, u5, ⟨g, c1, u6, u7, u8⟩, u9⟩ := hC i hi'
                rw [ei, o1] at u1; cases u1
                have u8' := u8.1
                refine ⟨oR o 2 (some q), by rw [xO23, if_pos (by rw [ei])], o2, rfl, s, md, en, ⟨(q5 18 (by omega) i (by omega)).trans u4.1, (q5 19 (by omega) i (by omega)).trans u4.2.1, (q5 20 (by omega) i (by omega)).trans u4.2.2⟩, by omega, ⟨g, c1, u6, hnod _ _ _ u7, u8.kp u5 q6⟩, ?_⟩
                rcases u9 with u9 | ⟨t, c', y1, y2, y3, y4⟩
                · exact Or.inl u9
                · exact Or.inr ⟨t, c', y1, hnod _ _ _ y2, y3.kp (by omega) q6, y4⟩
              · rw [if_neg cl]
                have := hC i hi'
                rw [if_pos (by omega)] at this
                refine this.kp hnod ?_ q4 (fun r hr => q5 r hr i (by omega)) q6
                obtain ⟨oi, u1, u2, -⟩ := hC i hi'
                rw [xO23, if_neg (aNe i (by omega)), u1]
                exact hE.2.2.2 _ _ (fun e => by rw [e, rr1] at u1; cases u1; omega) u1
          have := hQ m _ _ hm (hO8.put hXA (oR o 2 (some q))) (show X.2.2.2 (if L + 1 - 1 = L then q else A (L + 1 - 1)) = none by rw [if_pos (by omega)]; exact hXq) (hX.oth aL _) hC'
          rw [show (if L + 1 - 1 = L then q else A (L + 1 - 1)) = q from if_pos (by omega)] at this
          simp only [if_neg (show ¬ 0 = L by omega)] at this
          exact this
        · exact absurd y hok
      rcases key with ⟨S', cd', L', k1, k2, k3, k4, k5, k6, k7⟩ | ⟨S', at', k1, k2, k3, k4, k5⟩
      · exact Or.inl ⟨S', cd', L', k1, (kl3.tr g2).tr k2, k3, k4, k5, k6, fun Q hQ => comp Q (k7 Q hQ)⟩
      · exact Or.inr ⟨S', at', k1, (kl3.tr g2).tr k2, k3, k4, fun Q hQ => comp Q (k5 Q hQ)⟩
    · have hm : m_law_b25 N (fu + 1) S 1 = (if (S.1 14) = (S.1 6) then m_law_b66 N S 1 else m_law_b66 N S 0) := by
        rw [m_law_b25]
        exact iteFE one (b2E (m_isF ht hS (c := 59) (by omega) c59) (iteTE b2iF (iteFE one rfl)))
      by_cases ce : at_ = n
      · refine Or.inl ⟨S, cd, L, hm.trans (iteTE (by rw [s3, s1, ce]) rfl), KL.rf S, s5, by omega, h17, by omega, fun Q hQ m T A _ hO hXA hT hC => ?_⟩
        exact b7_E ht hT s6 c59 (fun _ => hQ T A hO (by have h := hT; rw [ce] at h; exact h) hC) (fun h => by omega)
      · refine Or.inr ⟨S, at_, hm.trans (iteFE (by rw [s3, s1, iz_eq (by omega)]; omega) rfl), KL.rf S, s3, s6, fun Q hQ m T A _ hO hXA hT hC => ?_⟩
        exact b7_E ht hT s6 c59 (fun h => absurd h ce) (fun _ T' hE hX => hQ _ T' at_ 0 (hO.ext hE hX0) hX)
end LINES
