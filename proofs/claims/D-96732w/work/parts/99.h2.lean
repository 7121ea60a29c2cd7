/-! THE LAW: its loop, its entry. Printed by law2.py; own text. -/
set_option maxRecDepth 100000
theorem R_init : R xInit mInit := by
  have m0 : ∀ k, k ≠ 24 → mi mInit k = 0 := fun k hk => by
    have : mInit.1 k = 0 := by
      show (if k = 24 then (-1 : Int32) else 0) = 0
      rw [if_neg hk]
    unfold mi; rw [this]; rfl
  have m24 : mi mInit 24 = -1 := by decide +kernel
  have a41 : ∀ s : Nat, s < 6 → ma mInit 41 s = -1 := by decide +kernel
  have x0 : ∀ k, k ≠ 4 → k ≠ 5 → k ≠ 29 → xInit.1 k = 0 := fun k a b c => by
    show (if k = 29 then (-1 : Int32) else if k = 5 then 1 else if k = 4 then 1 else 0) = 0
    rw [if_neg c, if_neg b, if_neg a]
  have i0 : iz 0 = 0 := by decide
  refine ⟨?_, ?_, ?_, ?_, ?_, ?_, ?_, ?_, ?_⟩
  · refine ⟨⟨?_, ?_, ?_⟩, ⟨by decide +kernel, by decide +kernel, by decide +kernel, by decide +kernel⟩, ?_, fun p hp => ?_, fun p hp => ?_, fun p q hp => ?_, fun p _ _ => rfl⟩
    · rw [m0 0 (by decide), x0 1 (by decide) (by decide) (by decide)]; rfl
    · rw [m0 0 (by decide)]; decide
    · rw [m0 0 (by decide)]; decide
    · decide +kernel
    · rw [m0 0 (by decide)] at hp; omega
    · rw [m0 0 (by decide)] at hp; omega
    · rw [m0 0 (by decide)] at hp; omega
  · unfold RC
    rw [m0 35 (by decide), m0 34 (by decide), x0 7 (by decide) (by decide) (by decide), x0 8 (by decide) (by decide) (by decide)]
    exact ⟨⟨rfl, rfl⟩, ⟨by omega, by omega, by omega⟩, fun k hk => by omega, fun k hk => by omega⟩
  · unfold RT
    rw [m0 6 (by decide), x0 10 (by decide) (by decide) (by decide)]
    exact ⟨⟨rfl, by omega, by omega⟩, fun k hk => by omega⟩
  · exact Or.inl ⟨rfl, rfl⟩
  · unfold RA
    rw [m24, m0 25 (by decide), m0 0 (by decide), x0 30 (by decide) (by decide) (by decide)]
    exact ⟨⟨by decide +kernel, by omega, by omega⟩, ⟨rfl, by omega, by omega⟩, rfl, rfl, rfl, rfl⟩
  · exact ⟨rfl, fun h => absurd rfl h⟩
  · unfold RK
    rw [m0 39 (by decide), x0 44 (by decide) (by decide) (by decide)]
    exact ⟨⟨rfl, by omega, by omega⟩, fun k _ hk => by omega⟩
  · unfold RB
    rw [m0 37 (by decide), x0 47 (by decide) (by decide) (by decide)]
    exact ⟨⟨rfl, by omega, by omega⟩, fun k hk => by omega⟩
  · refine ⟨fun s hs => Or.inl ⟨a41 s hs, rfl⟩, fun s s' h h' a a' b b' z z' hs _ _ e => ?_⟩
    rw [a41 s hs] at e; omega
section LLOOP
variable {κ : jK} {Γ : jG} {σ : jS} {G G' : Nat → Nat} {b Len : Nat} {f : Nat → Int32} {N : Nat} {sa : Nat → Nat}
theorem law_head (hκ : jX κ) {ret : Option FieldType} (C : jC κ Γ cL_law 4 RLaw ret) (hs : lwS κ b Len f) {w : jW} {i k n : Nat} (hi : i ≤ 1000) (kt : Len < i + 6 → J κ Γ σ 4 w k n 1750 (lwL G G' b i) []) (kf : i + 6 ≤ Len → J κ Γ σ 4 w k n 27 (lwL G G' b i) []) : J κ Γ σ 4 w k n 18 (lwL G G' b i) [] := by
  obtain ⟨⟨r, cA, hr, hcA⟩, hL⟩ := id hs
  refine j_iload_n C (x := iz i) dL_law_18 rfl rfl ?_
  refine j_aload_n C (x := b) dL_law_19 rfl rfl ?_
  refine j_alenC C r hr hcA (v := iz Len) (iz_nat Len) dL_law_20 ?_
  refine j_bipush C (v := iz 6) dL_law_21 rfl ?_
  refine j_isub C dL_law_23 ?_
  rw [iz_sub]
  refine j_icmp_gt C dL_law_24 (tgt := 1750) (by decide) (fun c => kt ?_) (fun c => kf ?_)
  · rw [iz_lt (by omega)] at c; omega
  · rw [iz_lt (by omega)] at c; omega
theorem law_tail {ret : Option FieldType} (C : jC κ Γ cL_law 4 RLaw ret) {w : jW} {i k n : Nat} (h : J κ Γ σ 4 w k n 18 (lwL G G' b (i + 6)) []) : J κ Γ σ 4 w k n 1744 (lwL G G' b i) [] := by
  refine j_iinc C (iz ((i + 6 : Nat) : Int)) dL_law_1744 (x := iz i) rfl ?_ (by decide) rfl ?_
  · show iz (i : Int) + iz 6 = _
    rw [iz_add]; rfl
  · exact j_goto C dL_law_1747 (tgt := 18) (by decide) h
theorem law_body (hκ : jX κ) (hl : jLits κ sa) (hN : 20000 ≤ N) {ret : Option FieldType} (C : jC κ Γ cL_law 4 RLaw ret) (hs : lwS κ b Len f) {X : XS} {M : MS} (hR : R X M) {i k n : Nat} (hi : i + 5 < Len) (hf : lwFit σ k n) (K : lwK κ Γ σ G G' b i k n) : J κ Γ σ 4 (PW κ G G' X M) k n 27 (lwL G G' b i) [] := by
  obtain ⟨⟨r, cA, hr, hcA⟩, hL⟩ := id hs
  refine j_aload_n C (x := b) dL_law_27 rfl rfl ?_
  refine j_iload_n C (x := iz i) dL_law_28 rfl rfl ?_
  obtain ⟨h1, h2⟩ := law_in (show i < Len by omega) hL
  refine j_ialdC C r hr hcA h1 dL_law_29 ?_
  rw [h2]
  refine j_bipush C (v := 63) dL_law_30 rfl ?_
  refine j_iand C dL_law_32 ?_
  generalize hx : f i &&& 63 = x
  by_cases c : x.toInt < 0 ∨ 44 < x.toInt
  · exact j_tabOut C dL_law_33 c (tgt := 1744) (by decide) (j_widen (by omega) (by omega) (K X M hR))
  obtain ⟨v, hv, ev⟩ : ∃ v : Nat, v ≤ 44 ∧ x = iz v := ⟨x.toInt.toNat, by omega, by rw [show ((x.toInt.toNat : Nat) : Int) = x.toInt by omega, iz_of]⟩
  have hc : v = 0 ∨ v = 1 ∨ v = 2 ∨ v = 3 ∨ v = 4 ∨ v = 5 ∨ v = 6 ∨ v = 7 ∨ v = 8 ∨ v = 9 ∨ v = 10 ∨ v = 11 ∨ v = 12 ∨ v = 13 ∨ v = 14 ∨ v = 15 ∨ v = 16 ∨ v = 17 ∨ v = 18 ∨ v = 19 ∨ v = 20 ∨ v = 21 ∨ v = 22 ∨ v = 23 ∨ v = 24 ∨ v = 25 ∨ v = 26 ∨ v = 27 ∨ v = 28 ∨ v = 29 ∨ v = 30 ∨ v = 31 ∨ v = 32 ∨ v = 33 ∨ v = 34 ∨ v = 35 ∨ v = 36 ∨ v = 37 ∨ v = 38 ∨ v = 39 ∨ v = 40 ∨ v = 41 ∨ v = 42 ∨ v = 43 ∨ v = 44 := by omega
  rcases hc with rfl | rfl | rfl | rfl | rfl | rfl | rfl | rfl | rfl | rfl | rfl | rfl | rfl | rfl | rfl | rfl | rfl | rfl | rfl | rfl | rfl | rfl | rfl | rfl | rfl | rfl | rfl | rfl | rfl | rfl | rfl | rfl | rfl | rfl | rfl | rfl | rfl | rfl | rfl | rfl | rfl | rfl | rfl | rfl | rfl
  · exact j_tabEq C dL_law_33 ev (a := 0) rfl (by decide) (by decide) rfl (tgt := 228) (by decide) (lc_0 hκ hN C hs hR hi hf K)
  · exact j_tabEq C dL_law_33 ev (a := 1) rfl (by decide) (by decide) rfl (tgt := 251) (by decide) (lc_1 hκ hN C hs hR hi hf K)
  · exact j_tabEq C dL_law_33 ev (a := 2) rfl (by decide) (by decide) rfl (tgt := 294) (by decide) (lc_2 hκ hN C hs hR hi hf K)
  · exact j_tabEq C dL_law_33 ev (a := 3) rfl (by decide) (by decide) rfl (tgt := 337) (by decide) (lc_3 hκ hN C hs hR hi hf K)
  · exact j_tabEq C dL_law_33 ev (a := 4) rfl (by decide) (by decide) rfl (tgt := 370) (by decide) (lc_4 hκ hN C hs hR hi hf K)
  · exact j_tabEq C dL_law_33 ev (a := 5) rfl (by decide) (by decide) rfl (tgt := 393) (by decide) (lc_5 hκ hl hN C hs hR hi hf K)
  · exact j_tabEq C dL_law_33 ev (a := 6) rfl (by decide) (by decide) rfl (tgt := 406) (by decide) (lc_6 hκ hN C hs hR hi hf K)
  · exact j_tabEq C dL_law_33 ev (a := 7) rfl (by decide) (by decide) rfl (tgt := 439) (by decide) (lc_7 hκ hN C hs hR hi hf K)
  · exact j_tabEq C dL_law_33 ev (a := 8) rfl (by decide) (by decide) rfl (tgt := 472) (by decide) (lc_8 hκ hN C hs hR hi hf K)
  · exact j_tabEq C dL_law_33 ev (a := 9) rfl (by decide) (by decide) rfl (tgt := 515) (by decide) (lc_9 hκ hN C hs hR hi hf K)
  · exact j_tabEq C dL_law_33 ev (a := 10) rfl (by decide) (by decide) rfl (tgt := 568) (by decide) (lc_10 hκ hN C hs hR hi hf K)
  · exact j_tabEq C dL_law_33 ev (a := 11) rfl (by decide) (by decide) rfl (tgt := 621) (by decide) (lc_11 hκ hN C hs hR hi hf K)
  · exact j_tabEq C dL_law_33 ev (a := 12) rfl (by decide) (by decide) rfl (tgt := 654) (by decide) (lc_12 hκ hN C hs hR hi hf K)
  · exact j_tabEq C dL_law_33 ev (a := 13) rfl (by decide) (by decide) rfl (tgt := 687) (by decide) (lc_13 hκ hN C hs hR hi hf K)
  · exact j_tabEq C dL_law_33 ev (a := 14) rfl (by decide) (by decide) rfl (tgt := 710) (by decide) (lc_14 hκ hN C hs hR hi hf K)
  · exact j_tabEq C dL_law_33 ev (a := 15) rfl (by decide) (by decide) rfl (tgt := 743) (by decide) (lc_15 hκ hN C hs hR hi hf K)
  · exact j_tabEq C dL_law_33 ev (a := 16) rfl (by decide) (by decide) rfl (tgt := 776) (by decide) (lc_16 hκ hN C hs hR hi hf K)
  · exact j_tabEq C dL_law_33 ev (a := 17) rfl (by decide) (by decide) rfl (tgt := 829) (by decide) (lc_17 hκ hN C hs hR hi hf K)
  · exact j_tabEq C dL_law_33 ev (a := 18) rfl (by decide) (by decide) rfl (tgt := 862) (by decide) (lc_18 hκ hN C hs hR hi hf K)
  · exact j_tabEq C dL_law_33 ev (a := 19) rfl (by decide) (by decide) rfl (tgt := 905) (by decide) (lc_19 hκ hN C hs hR hi hf K)
  · exact j_tabEq C dL_law_33 ev (a := 20) rfl (by decide) (by decide) rfl (tgt := 958) (by decide) (lc_20 hκ hN C hs hR hi hf K)
  · exact j_tabEq C dL_law_33 ev (a := 21) rfl (by decide) (by decide) rfl (tgt := 1011) (by decide) (lc_21 hκ hN C hs hR hi hf K)
  · exact j_tabEq C dL_law_33 ev (a := 22) rfl (by decide) (by decide) rfl (tgt := 1054) (by decide) (lc_22 hκ hN C hs hR hi hf K)
  · exact j_tabEq C dL_law_33 ev (a := 23) rfl (by decide) (by decide) rfl (tgt := 1087) (by decide) (lc_23 hκ hN C hs hR hi hf K)
  · exact j_tabEq C dL_law_33 ev (a := 24) rfl (by decide) (by decide) rfl (tgt := 1110) (by decide) (lc_24 hκ hN C hs hR hi hf K)
  · exact j_tabEq C dL_law_33 ev (a := 25) rfl (by decide) (by decide) rfl (tgt := 1143) (by decide) (lc_25 hκ hN C hs hR hi hf K)
  · exact j_tabEq C dL_law_33 ev (a := 26) rfl (by decide) (by decide) rfl (tgt := 1176) (by decide) (lc_26 hκ hN C hs hR hi hf K)
  · exact j_tabEq C dL_law_33 ev (a := 27) rfl (by decide) (by decide) rfl (tgt := 1219) (by decide) (lc_27 hκ hN C hs hR hi hf K)
  · exact j_tabEq C dL_law_33 ev (a := 28) rfl (by decide) (by decide) rfl (tgt := 1242) (by decide) (lc_28 hκ hN C hs hR hi hf K)
  · exact j_tabEq C dL_law_33 ev (a := 29) rfl (by decide) (by decide) rfl (tgt := 1265) (by decide) (lc_29 hκ hN C hs hR hi hf K)
  · exact j_tabEq C dL_law_33 ev (a := 30) rfl (by decide) (by decide) rfl (tgt := 1278) (by decide) (lc_30 hκ hN C hs hR hi hf K)
  · exact j_tabEq C dL_law_33 ev (a := 31) rfl (by decide) (by decide) rfl (tgt := 1301) (by decide) (lc_31 hκ hN C hs hR hi hf K)
  · exact j_tabEq C dL_law_33 ev (a := 32) rfl (by decide) (by decide) rfl (tgt := 1314) (by decide) (lc_32 hκ hN C hs hR hi hf K)
  · exact j_tabEq C dL_law_33 ev (a := 33) rfl (by decide) (by decide) rfl (tgt := 1327) (by decide) (lc_33 hκ hN C hs hR hi hf K)
  · exact j_tabEq C dL_law_33 ev (a := 34) rfl (by decide) (by decide) rfl (tgt := 1340) (by decide) (lc_34 hκ hN C hs hR hi hf K)
  · exact j_tabEq C dL_law_33 ev (a := 35) rfl (by decide) (by decide) rfl (tgt := 1353) (by decide) (lc_35 hκ hN C hs hR hi hf K)
  · exact j_tabEq C dL_law_33 ev (a := 36) rfl (by decide) (by decide) rfl (tgt := 1376) (by decide) (lc_36 hκ hN C hs hR hi hf K)
  · exact j_tabEq C dL_law_33 ev (a := 37) rfl (by decide) (by decide) rfl (tgt := 1419) (by decide) (lc_37 hκ hN C hs hR hi hf K)
  · exact j_tabEq C dL_law_33 ev (a := 38) rfl (by decide) (by decide) rfl (tgt := 1442) (by decide) (lc_38 hκ hN C hs hR hi hf K)
  · exact j_tabEq C dL_law_33 ev (a := 39) rfl (by decide) (by decide) rfl (tgt := 1475) (by decide) (lc_39 hκ hN C hs hR hi hf K)
  · exact j_tabEq C dL_law_33 ev (a := 40) rfl (by decide) (by decide) rfl (tgt := 1518) (by decide) (lc_40 hκ hN C hs hR hi hf K)
  · exact j_tabEq C dL_law_33 ev (a := 41) rfl (by decide) (by decide) rfl (tgt := 1591) (by decide) (lc_41 hκ hN C hs hR hi hf K)
  · exact j_tabEq C dL_law_33 ev (a := 42) rfl (by decide) (by decide) rfl (tgt := 1625) (by decide) (lc_42 hκ hN C hs hR hi hf K)
  · exact j_tabEq C dL_law_33 ev (a := 43) rfl (by decide) (by decide) rfl (tgt := 1688) (by decide) (lc_43 hκ hN C hs hR hi hf K)
  · exact j_tabEq C dL_law_33 ev (a := 44) rfl (by decide) (by decide) rfl (tgt := 1721) (by decide) (lc_44 hκ hN C hs hR hi hf K)
theorem law_loop (hκ : jX κ) (hl : jLits κ sa) (hN : 20000 ≤ N) (C : jC κ Γ cL_law 4 RLaw (some .boolean)) (hs : lwS κ b Len f) (h1 : 300 ≤ σ.1) (hp : ∀ w, σ.2.2.2 (some (.int 1)) w) : ∀ (r i k n : Nat) (X : XS) (M : MS), R X M → Len ≤ i + 6 * r + 5 → i ≤ Len → k + 1000 * r ≤ σ.2.1 → n + 64000 * r ≤ σ.2.2.1 → J κ Γ σ 4 (PW κ G G' X M) k n 18 (lwL G G' b i) [] := by
  have hL := hs.2
  have ex : ∀ (w : jW) (i k n : Nat), k ≤ σ.2.1 → n ≤ σ.2.2.1 → J κ Γ σ 4 w k n 1750 (lwL G G' b i) [] := fun w i k n hk hn => by
    refine j_iconst C (v := 1) dL_law_1750 rfl ?_
    exact j_zret C rfl dL_law_1751 hk hn (hp w)
  intro r
  induction r with
  | zero =>
    intro i k n X M hR h hi hk hn
    exact law_head hκ C hs (by omega) (fun _ => ex _ _ _ _ (by omega) (by omega)) (fun c => by omega)
  | succ r ih =>
    intro i k n X M hR h hi hk hn
    refine law_head hκ C hs (by omega) (fun _ => ex _ _ _ _ (by omega) (by omega)) (fun c => ?_)
    refine law_body hκ hl hN C hs hR (by omega) ⟨h1, by omega, by omega⟩ (fun X' M' hR' => ?_)
    exact law_tail C (ih (i + 6) _ _ X' M' hR' (by omega) (by omega) (by omega) (by omega))
/-! the entry -/
theorem pX_new (κ : jK) (q : Nat) : jset (fun _ => none) 0 (q, .inr (ciX0, fsXp (fun _ => 0) xZ [])) = pX κ (fun _ => q) xZ [] := by
  have e : fsXp (fun _ => 0) xZ [] = fsXp (fun _ => q) xZ [] := by
    unfold fsXp
    congr 1
    funext k
    unfold fvXp
    simp
  rw [e]
  funext r
  unfold jset pX
  by_cases c : r = 0
  · rw [if_pos c, if_pos c]
  · rw [if_neg c, if_neg c, if_neg (by simp)]
theorem pM_new (κ : jK) (q : Nat) : jset (fun _ => none) 0 (q, .inr (ciM, fsMp (fun _ => 0) mZ [])) = pM κ (fun _ => q) mZ [] := by
  have e : fsMp (fun _ => 0) mZ [] = fsMp (fun _ => q) mZ [] := by
    unfold fsMp
    congr 1
    funext k
    unfold fvMp
    simp
  rw [e]
  funext r
  cases r with
  | zero => rfl
  | succ r => rfl
theorem defX0 : ∀ j, j < 49 → defaultValue (tyX0 j) = vp_V (fsXp (fun _ => 0) xZ []) j := by decide +kernel
theorem defX2 : ∀ j, j < 54 → defaultValue (tyX2 j) = vp_V (fsMp (fun _ => 0) mZ []) j := by decide +kernel
theorem jBi_nil (w : jW) : jBi w (fun _ => none) = fun r => if r % 2 = 0 then w (r / 2) else none := rfl
theorem jBi_none : jBi (fun _ => none) (fun _ => none) = fun _ => none := by
  funext r
  unfold jBi
  by_cases c : r % 2 = 0
  · rw [if_pos c]
  · rw [if_neg c]
theorem law_walks (hκ : jX κ) (hAO : jAO κ) (hl : jLits κ sa) (C : jC κ Γ cL_law 4 RLaw (some .boolean)) (hs : lwS κ b Len f) (h1 : 300 ≤ σ.1) (h2 : 65000 ≤ σ.2.1) (h3 : 4200000 ≤ σ.2.2.1) (hp : ∀ w, σ.2.2.2 (some (.int 1)) w) : J κ Γ σ 4 (fun _ => none) 0 0 0 [some (.ref b), none, none, none] [] := by
  have hL := hs.2
  refine j_new C in_X0 tyX0 tyX0_ok q157 q158 q113 (hκ.cl rfl) defX0 (by omega) (by omega) (fun _ => 0) dL_law_0 (fun q hq => ?_)
  refine j_dup C dL_law_3 rfl ?_
  refine j_world (w' := jBi (pX κ (fun _ => q) xZ []) (fun _ => none)) ?_ ?_
  · rw [← pX_new, ← jBi_none]
    exact jBi_setl _ _ 0 _
  refine j_callI hκ.1.1 C (jM.frame (mt_x_init hκ hAO q) (fun _ => none)) q161 q113 q159 q160 rfl ⟨by decide, by decide, by decide +kernel⟩ rfl dL_law_4 ⟨by show _ + 1 ≤ σ.1; omega, by decide, by omega, by omega, Nat.le_of_ble_eq_true rfl⟩ rfl (fun u w' h => ?_)
  obtain ⟨w1, ⟨rfl, G, hG, rfl⟩, rfl⟩ := h
  subst hG
  refine j_astore_n C (x := G 0) dL_law_7 rfl (by decide) rfl ?_
  refine j_new C in_X2 tyX2 tyX2_ok q1631 q1632 q115 (hκ.cl rfl) defX2 (by omega) (by omega) (fun _ => 1) dL_law_8 (fun q2 hq2 => ?_)
  refine j_dup C dL_law_11 rfl ?_
  refine j_world (w' := jBi (wX κ G xInit) (pM κ (fun _ => q2) mZ [])) ?_ ?_
  · rw [← pM_new]
    exact jBi_setr _ _ 0 _
  refine j_callI hκ.1.1 C (jM.frameR (mt_m_init hκ.1 q2) (wX κ G xInit)) q1635 q115 q1633 q1634 rfl ⟨by decide, by decide, by decide +kernel⟩ rfl dL_law_12 ⟨by show _ + 1 ≤ σ.1; omega, by decide, by omega, by omega, Nat.le_of_ble_eq_true rfl⟩ rfl (fun u w' h => ?_)
  obtain ⟨w2, ⟨rfl, G', hG', rfl⟩, rfl⟩ := h
  subst hG'
  refine j_astore_n C (x := G' 0) dL_law_15 rfl (by decide) rfl ?_
  refine j_iconst C (v := 0) dL_law_16 rfl ?_
  refine j_istore_n C (x := 0) dL_law_17 rfl (by decide) rfl ?_
  exact law_loop (N := 20000) hκ hl (Nat.le_refl _) C hs h1 hp 64 0 _ _ xInit mInit R_init (by omega) (by omega) (by omega) (by omega)
end LLOOP
