/-! THE READER: its literals, its recursion, what its methods need. Own text. -/
set_option maxRecDepth 100000
def rLitB : Nat → List Int32
  | 0 => [118, 117, 109, 100, 112, 110]
  | 1 => [42, 47, 37]
  | 2 => [43, 45]
  | _ => [60, 61, 62]
def rLitT : Nat → Nat × String
  | 0 => (98, "vumdpn")
  | 1 => (93, "*/%")
  | 2 => (88, "+-")
  | _ => (79, "<=>")
/-- the four literals, at sa 0 .. sa 3 -/
def jLits (κ : jK) (sa : Nat → Nat) : Prop := (∀ i : Nat, i < 4 → ∃ rs rv av : Nat, jLit κ rs rv (sa i) av (rLitB i).length (fun j => (rLitB i).getD j 0)) ∧ ∀ i : Nat, i < 4 → ∀ s : State, κ.2.2.2.2.2 s → vk_R RX5 (rLitT i).1 (rLitT i).2 (sa i) s
def r_one (i : Nat) (T : XS) (a0 : Nat) : Option Bool := r_isOne (rLitB i).length (fun j => (rLitB i).getD j 0) T a0
theorem mt_r_one {κ : jK} (hκ : jX κ) (G : Nat → Nat) {sa : Nat → Nat} (hl : jLits κ sa) (i : Nat) (hi : i < 4) {T : XS} {a0 : Nat} {v : Bool} (h : r_one i T a0 = some v) : jM κ yX5_isOne (ws_ yX5_isOne cX5_isOne 2 (some .boolean)) 4 0 0 [.ref a0, .ref (sa i)] (wX κ G T) (fun u w' => u = some (.int (b2i v)) ∧ w' = wX κ G T) := by
  obtain ⟨rs, rv, av, hj⟩ := hl.1 i hi
  refine mt_r_isOne hκ G hj ?_ h
  rcases i with _ | _ | _ | _ | i
  · decide
  · decide
  · decide
  · decide
  · omega
/-- what an operand's reading is to be held for -/
abbrev rO : Type := (Option Nat → XS → Prop) → Nat → Nat → XS → Prop
def okO (κ : jK) (G : Nat → Nat) (f : Nat) (o : rO) : Prop := ∀ {Q : Option Nat → XS → Prop} {a0 m : Nat} {T : XS}, o Q a0 m T → jM κ yX5_operand (ws_ yX5_operand cX5_operand 4 (some (.object "NineKeysRound$Node"))) f m (64 * m) [.ref a0] (wX κ G T) (fun u w' => ∃ v T', Q v T' ∧ u = some (va_rf v) ∧ w' = wX κ G T')
theorem jok_rf {L : List (Option Value)} {j : Nat} {e : Option Nat} (h : L[j]? = some (some (va_rf e))) : jok L (j + 1) = true := by
  simp only [jok, h]
  cases e <;> rfl
theorem jx_inN {κ : jK} {Γ : jG} {σ : jS} {nL : Nat} {w : jW} {a b : Nat} {pc : Nat} {L : List (Option Value)} {st : List Value} {cc : ByteArray} {own : String} {ret : Option FieldType} (hκ : jX κ) (C : jC κ Γ cc nL own ret) {p1 p2 p3 : Int32} {v : Bool} {index : Nat} {host : String} (h1 : x_in p1 p2 p3 = some v) (hlink : Cond.methodLinkNest own index yX0_in host ∈ lw_tbl) (hd : decode cc pc = .ok (.invokestatic index, 3)) (hfit : jfit σ 0 0 0 a b 3 st)
    (h : J κ Γ σ nL w a b (pc + 3) L (.int (b2i v) :: st)) : J κ Γ σ nL w a b pc L (.int p3 :: .int p2 :: .int p1 :: st) :=
  j_callSN hκ C (mt_x_in hκ h1) q347 q113 hlink q346 ⟨by decide, by decide, by decide +kernel⟩ (N := 3) rfl (As := [.int p1, .int p2, .int p3]) hd hfit rfl (fun u w' hp => by obtain ⟨rfl, rfl⟩ := hp; exact h)
