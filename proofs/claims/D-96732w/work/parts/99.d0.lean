/-! THE FRAME RULE over two worlds. Own text. -/
set_option maxRecDepth 100000
def jBi (w1 w2 : jW) : jW := fun r => if r % 2 = 0 then w1 (r / 2) else w2 (r / 2)
theorem jBi_l (w1 w2 : jW) (r : Nat) : jBi w1 w2 (2 * r) = w1 r := by
  unfold jBi
  rw [if_pos (by omega), show 2 * r / 2 = r by omega]
theorem jBi_r (w1 w2 : jW) (r : Nat) : jBi w1 w2 (2 * r + 1) = w2 r := by
  unfold jBi
  rw [if_neg (by omega), show (2 * r + 1) / 2 = r by omega]
theorem jBi_some {w1 w2 : jW} {r : Nat} {q : Nat × va_E} (h : jBi w1 w2 r = some q) : (∃ k, r = 2 * k ∧ w1 k = some q) ∨ ∃ k, r = 2 * k + 1 ∧ w2 k = some q := by
  unfold jBi at h
  by_cases c : r % 2 = 0
  · rw [if_pos c] at h; exact Or.inl ⟨r / 2, by omega, h⟩
  · rw [if_neg c] at h; exact Or.inr ⟨r / 2, by omega, h⟩
theorem jBi_setl (w1 w2 : jW) (r : Nat) (q : Nat × va_E) : jset (jBi w1 w2) (2 * r) q = jBi (jset w1 r q) w2 := by
  funext k
  unfold jset jBi
  by_cases c : k % 2 = 0
  · rw [if_pos c, if_pos c]
    by_cases e : k = 2 * r
    · rw [if_pos e]; show some q = if k / 2 = r then some q else _; rw [if_pos (by omega)]
    · rw [if_neg e]; show _ = if k / 2 = r then _ else _; rw [if_neg (by omega)]
  · rw [if_neg c, if_neg c, if_neg (by omega)]
theorem jBi_setr (w1 w2 : jW) (r : Nat) (q : Nat × va_E) : jset (jBi w1 w2) (2 * r + 1) q = jBi w1 (jset w2 r q) := by
  funext k
  unfold jset jBi
  by_cases c : k % 2 = 0
  · rw [if_pos c, if_pos c, if_neg (by omega)]
  · rw [if_neg c, if_neg c]
    by_cases e : k = 2 * r + 1
    · rw [if_pos e]; show some q = if k / 2 = r then some q else _; rw [if_pos (by omega)]
    · rw [if_neg e]; show _ = if k / 2 = r then _ else _; rw [if_neg (by omega)]
section FR
variable {κ : jK} {w1 w2 : jW}
theorem jfr_pre {sz : Nat} {av : List Value} {a : Array Value} {s : State} (hl : ∀ r, ∃ r', jBi w1 w2 r' = w1 r ∧ r' = 2 * r) (h : jPc κ av (jBi w1 w2) sz a s) : jPc κ av w1 sz a s := by
  obtain ⟨p0, p1, pP, pK, pD, pX, c1, c2, c3⟩ := h
  have hs : ∀ q, jA w1 sz q → jA (jBi w1 w2) sz q := by
    rintro q (⟨r, e, h⟩ | h)
    · exact Or.inl ⟨2 * r, e, by rw [jBi_l]; exact h⟩
    · exact Or.inr h
  exact ⟨p0, p1, fun r q hr => pP (2 * r) q (by rw [jBi_l]; exact hr), pK, ⟨fun r r' q q' g1 g2 e => by have := pD.1 (2 * r) (2 * r') q q' (by rw [jBi_l]; exact g1) (by rw [jBi_l]; exact g2) e; omega, fun _ _ _ => trivial⟩, pX, c1, fun r r' q q' g1 g2 => c2 r (2 * r') q q' g1 (by rw [jBi_l]; exact g2), ⟨c3.1.narrow hs, c3.2.1.narrow hs, c3.2.2.narrow hs⟩⟩
theorem jM.frame {y : MethodName} {ws : List Cond} {f mc ms : Nat} {av : List Value} {post : Option Value → jW → Prop} (h : jM κ y ws f mc ms av w1 post) (w2 : jW) : jM κ y ws f mc ms av (jBi w1 w2) (fun u w' => ∃ w1', post u w1' ∧ w' = jBi w1' w2) := by
  intro sz
  have h := h sz
  have hs : ∀ q, jA w1 sz q → jA (jBi w1 w2) sz q := by
    rintro q (⟨r, e, h⟩ | h)
    · exact Or.inl ⟨2 * r, e, by rw [jBi_l]; exact h⟩
    · exact Or.inr h
  unfold Met at h ⊢
  refine MetFree.mono h (fun a s hp => jfr_pre (fun r => ⟨2 * r, jBi_l _ _ r, rfl⟩) hp) (fun _ _ _ _ _ h => h) (fun a st o t hp hq => ?_)
  obtain ⟨p0, p1, pP, pK, pD, pX, c1, c2, c3⟩ := hp
  obtain ⟨⟨⟨v, w', ho, hpost, hP', hD'⟩, hF⟩, Ls, hL1, hL2⟩ := hq
  have hn : ∀ (r : Nat) (q : Nat × va_E), w2 r = some q → ¬ jA w1 sz q.1 := by
    rintro r q hr (⟨r1, e, h1⟩ | h1)
    · have := pD.1 (2 * r1) (2 * r + 1) (q.1, e) q (by rw [jBi_l]; exact h1) (by rw [jBi_r]; exact hr) rfl
      omega
    · have := (pP (2 * r + 1) q (by rw [jBi_r]; exact hr)).lt
      omega
  refine ⟨⟨⟨v, jBi w' w2, ho, ⟨w', hpost, rfl⟩, ?_, ?_⟩, hF.1, fun q h1 h2 => hF.2 q h1 fun z => h2 (hs q z)⟩, Ls, hL1, fun q hq => hs _ (hL2 q hq)⟩
  · intro r q hr
    rcases jBi_some hr with ⟨k, -, hk⟩ | ⟨k, -, hk⟩
    · exact hP' k q hk
    · have g := pP (2 * k + 1) q (by rw [jBi_r]; exact hk)
      exact g.kept (hF.2 q.1 g.lt (hn k q hk))
  · refine ⟨fun r r' q q' h1 h2 e => ?_, fun r q hr => ?_⟩
    · rcases jBi_some h1 with ⟨k, rfl, hk⟩ | ⟨k, rfl, hk⟩ <;> rcases jBi_some h2 with ⟨j, rfl, hj⟩ | ⟨j, rfl, hj⟩
      · rw [hD'.1 k j q q' hk hj e]
      · exact absurd (by rw [← e]; exact hD'.2 k q hk) (hn j q' hj)
      · exact absurd (by rw [e]; exact hD'.2 j q' hj) (hn k q hk)
      · have := pD.1 (2 * k + 1) (2 * j + 1) q q' (by rw [jBi_r]; exact hk) (by rw [jBi_r]; exact hj) e
        omega
    · rcases jBi_some hr with ⟨k, rfl, hk⟩ | ⟨k, rfl, hk⟩
      · exact hs _ (hD'.2 k q hk)
      · exact Or.inl ⟨2 * k + 1, q.2, by rw [jBi_r]; exact hk⟩
theorem jM.frameR {y : MethodName} {ws : List Cond} {f mc ms : Nat} {av : List Value} {post : Option Value → jW → Prop} (h : jM κ y ws f mc ms av w2 post) (w1 : jW) : jM κ y ws f mc ms av (jBi w1 w2) (fun u w' => ∃ w2', post u w2' ∧ w' = jBi w1 w2') := by
  intro sz
  have h := h sz
  have hs : ∀ q, jA w2 sz q → jA (jBi w1 w2) sz q := by
    rintro q (⟨r, e, h⟩ | h)
    · exact Or.inl ⟨2 * r + 1, e, by rw [jBi_r]; exact h⟩
    · exact Or.inr h
  unfold Met at h ⊢
  refine MetFree.mono h (fun a s hp => ?_) (fun _ _ _ _ _ h => h) (fun a st o t hp hq => ?_)
  · obtain ⟨p0, p1, pP, pK, pD, pX, c1, c2, c3⟩ := hp
    exact ⟨p0, p1, fun r q hr => pP (2 * r + 1) q (by rw [jBi_r]; exact hr), pK, ⟨fun r r' q q' g1 g2 e => by have := pD.1 (2 * r + 1) (2 * r' + 1) q q' (by rw [jBi_r]; exact g1) (by rw [jBi_r]; exact g2) e; omega, fun _ _ _ => trivial⟩, pX, c1, fun r r' q q' g1 g2 => c2 r (2 * r' + 1) q q' g1 (by rw [jBi_r]; exact g2), ⟨c3.1.narrow hs, c3.2.1.narrow hs, c3.2.2.narrow hs⟩⟩
  obtain ⟨p0, p1, pP, pK, pD, pX, c1, c2, c3⟩ := hp
  obtain ⟨⟨⟨v, w', ho, hpost, hP', hD'⟩, hF⟩, Ls, hL1, hL2⟩ := hq
  have hn : ∀ (r : Nat) (q : Nat × va_E), w1 r = some q → ¬ jA w2 sz q.1 := by
    rintro r q hr (⟨r1, e, h1⟩ | h1)
    · have := pD.1 (2 * r1 + 1) (2 * r) (q.1, e) q (by rw [jBi_r]; exact h1) (by rw [jBi_l]; exact hr) rfl
      omega
    · have := (pP (2 * r) q (by rw [jBi_l]; exact hr)).lt
      omega
  refine ⟨⟨⟨v, jBi w1 w', ho, ⟨w', hpost, rfl⟩, ?_, ?_⟩, hF.1, fun q h1 h2 => hF.2 q h1 fun z => h2 (hs q z)⟩, Ls, hL1, fun q hq => hs _ (hL2 q hq)⟩
  · intro r q hr
    rcases jBi_some hr with ⟨k, -, hk⟩ | ⟨k, -, hk⟩
    · have g := pP (2 * k) q (by rw [jBi_l]; exact hk)
      exact g.kept (hF.2 q.1 g.lt (hn k q hk))
    · exact hP' k q hk
  · refine ⟨fun r r' q q' h1 h2 e => ?_, fun r q hr => ?_⟩
    · rcases jBi_some h1 with ⟨k, rfl, hk⟩ | ⟨k, rfl, hk⟩ <;> rcases jBi_some h2 with ⟨j, rfl, hj⟩ | ⟨j, rfl, hj⟩
      · have := pD.1 (2 * k) (2 * j) q q' (by rw [jBi_l]; exact hk) (by rw [jBi_l]; exact hj) e
        omega
      · exact absurd (by rw [e]; exact hD'.2 j q' hj) (hn k q hk)
      · exact absurd (by rw [← e]; exact hD'.2 k q hk) (hn j q' hj)
      · rw [hD'.1 k j q q' hk hj e]
    · rcases jBi_some hr with ⟨k, rfl, hk⟩ | ⟨k, rfl, hk⟩
      · exact Or.inl ⟨2 * k, q.2, by rw [jBi_l]; exact hk⟩
      · exact hs _ (hD'.2 k q hk)
end FR
