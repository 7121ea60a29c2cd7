/-! VALUES of the law's nodes: open recursion. Own text. -/
set_option maxRecDepth 100000
/-- what o answers of a node is what the node's own method returns, within fo frames -/
def okV (κ : jK) (G : Nat → Nat) (fo : Nat) (o : XS → Nat → Option Int32) : Prop := ∀ (T : XS) (q : Nat) (v : Int32), o T q = some v → ∃ x : XO, T.2.2.2 q = some x ∧
  ((x.1 = 8 ∧ jM κ yX8_value (ws_ yX8_value cX8_value 2 (some .int)) fo 0 0 [.ref q, .ref (G 13)] (wX κ G T) (fun u w' => u = some (.int v) ∧ w' = wX κ G T)) ∨
   (x.1 = 9 ∧ jM κ yX9_value (ws_ yX9_value cX9_value 2 (some .int)) fo 0 0 [.ref q, .ref (G 13)] (wX κ G T) (fun u w' => u = some (.int v) ∧ w' = wX κ G T)) ∨
   (x.1 = 10 ∧ jM κ yX10_value (ws_ yX10_value cX10_value 2 (some .int)) fo 0 0 [.ref q, .ref (G 13)] (wX κ G T) (fun u w' => u = some (.int v) ∧ w' = wX κ G T)) ∨
   (x.1 = 11 ∧ jM κ yX11_value (ws_ yX11_value cX11_value 2 (some .int)) fo 0 0 [.ref q, .ref (G 13)] (wX κ G T) (fun u w' => u = some (.int v) ∧ w' = wX κ G T)) ∨
   (x.1 = 12 ∧ jM κ yX12_value (ws_ yX12_value cX12_value 4 (some .int)) fo 0 0 [.ref q, .ref (G 13)] (wX κ G T) (fun u w' => u = some (.int v) ∧ w' = wX κ G T)))
abbrev yNodeV : MethodName := ⟨"NineKeysRound$Node", "value", "(LNineKeysRound$Facts;)I"⟩
def jUV (own : String) (index : Nat) : Prop := jU own index "NineKeysRound$Name" "NineKeysRound$Node" yNodeV yX8_value cX8_value 2 (some .int) ∧ jU own index "NineKeysRound$Denied" "NineKeysRound$Node" yNodeV yX9_value cX9_value 2 (some .int) ∧ jU own index "NineKeysRound$Turned" "NineKeysRound$Node" yNodeV yX10_value cX10_value 2 (some .int) ∧ jU own index "NineKeysRound$Leaf" "NineKeysRound$Node" yNodeV yX11_value cX11_value 2 (some .int) ∧ jU own index "NineKeysRound$Pair" "NineKeysRound$Node" yNodeV yX12_value cX12_value 4 (some .int)
theorem jx_value {κ : jK} {G : Nat → Nat} {T : XS} {Γ : jG} {σ : jS} {nL : Nat} {a b : Nat} {pc : Nat} {L : List (Option Value)} {st : List Value} {cc : ByteArray} {own : String} {ret : Option FieldType} {fo : Nat} {o : XS → Nat → Option Int32} (hκ : jX κ) (C : jC κ Γ cc nL own ret) (ho : okV κ G fo o) {index : Nat} (hw : jUV own index) {e : Option Nat} {q : Nat} {v : Int32} (he : e = some q) (hv : o T q = some v) (hd : decode cc pc = .ok (.invokevirtual index, 3)) (h1 : fo + 1 ≤ σ.1) (h2 : a ≤ σ.2.1) (h3 : b ≤ σ.2.2.1) (h4 : (st.map fun v => v.category).sum ≤ 8)
    (h : J κ Γ σ nL (wX κ G T) a b (pc + 3) L (.int v :: st)) : J κ Γ σ nL (wX κ G T) a b pc L (.ref (G 13) :: va_rf e :: st) := by
  subst he
  obtain ⟨x, hx, hM⟩ := ho T q v hv
  obtain ⟨w8, w9, w10, w11, w12⟩ := hw
  rcases hM with ⟨ht, hM⟩ | ⟨ht, hM⟩ | ⟨ht, hM⟩ | ⟨ht, hM⟩ | ⟨ht, hM⟩
  · exact jx_U (As := [.ref (G 13)]) hκ C hM w8 (N := 1) (by decide +kernel) rfl (getO_eq hx ht) (by decide) rfl rfl hd ⟨h1, by decide, h2, h3, h4⟩ rfl h
  · exact jx_U (As := [.ref (G 13)]) hκ C hM w9 (N := 1) (by decide +kernel) rfl (getO_eq hx ht) (by decide) rfl rfl hd ⟨h1, by decide, h2, h3, h4⟩ rfl h
  · exact jx_U (As := [.ref (G 13)]) hκ C hM w10 (N := 1) (by decide +kernel) rfl (getO_eq hx ht) (by decide) rfl rfl hd ⟨h1, by decide, h2, h3, h4⟩ rfl h
  · exact jx_U (As := [.ref (G 13)]) hκ C hM w11 (N := 1) (by decide +kernel) rfl (getO_eq hx ht) (by decide) rfl rfl hd ⟨h1, by decide, h2, h3, h4⟩ rfl h
  · exact jx_U (As := [.ref (G 13)]) hκ C hM w12 (N := 1) (by decide +kernel) rfl (getO_eq hx ht) (by decide) rfl rfl hd ⟨h1, by decide, h2, h3, h4⟩ rfl h
