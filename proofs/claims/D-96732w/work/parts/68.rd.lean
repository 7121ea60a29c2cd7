/-! THE READER: reads of the outer object. Own text. -/
set_option maxRecDepth 100000
section RD
variable {κ : jK} {Γ : jG} {σ : jS} {nL : Nat} {a b : Nat} {pc : Nat} {L : List (Option Value)} {st : List Value} {cc : ByteArray} {own : String} {ret : Option FieldType} {G : Nat → Nat} {T : XS} {q : Nat} {x : XO}
theorem jx_getiN (hκ : jX κ) (C : jC κ Γ cc nL own ret) (k : Nat) (hk : k < 49) (hs : xKd k = 0) {index : Nat} {host : String} (hlink : Cond.fieldLinkNest own index (TX0 k).1 (TX0 k).2.1 (TX0 k).2.2.1 host ∈ lw_tbl) (hd : decode cc pc = .ok (.getfield index, 3)) (h : J κ Γ σ nL (wX κ G T) a b (pc + 3) L (.int (T.1 k) :: st)) : J κ Γ σ nL (wX κ G T) a b pc L (.ref (G 0) :: st) :=
  j_getN hκ.2 C in_X0 0 rfl (hκ.cl rfl) k hk hlink rfl (by rw [fsX_at G T hk]; unfold fvX; rw [if_pos hs]) hd h
theorem jx_getaN (hκ : jX κ) (C : jC κ Γ cc nL own ret) (k : Nat) (hk : k < 49) (h0 : (xKd k == 0) = false) (h7 : (xKd k == 7) = false) {index : Nat} {host : String} (hlink : Cond.fieldLinkNest own index (TX0 k).1 (TX0 k).2.1 (TX0 k).2.2.1 host ∈ lw_tbl) (hd : decode cc pc = .ok (.getfield index, 3)) (h : J κ Γ σ nL (wX κ G T) a b (pc + 3) L (.ref (G (k + 1)) :: st)) : J κ Γ σ nL (wX κ G T) a b pc L (.ref (G 0) :: st) :=
  j_getN hκ.2 C in_X0 0 rfl (hκ.cl rfl) k hk hlink rfl (by rw [fsX_at G T hk]; unfold fvX; rw [if_neg (by simpa using h0), if_neg (by simpa using h7)]) hd h
end RD
