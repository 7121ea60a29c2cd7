/-! THE LAW: rows, and its cases. Printed by law.py; own text. -/
set_option maxRecDepth 100000
abbrev RLaw : String := "NineKeysRoundLaw"
def PW (κ : jK) (G G' : Nat → Nat) (X : XS) (M : MS) : jW := jBi (wX κ G X) (wM κ G' M)
def lwL (G G' : Nat → Nat) (b i : Nat) : List (Option Value) := [some (.ref b), some (.ref (G 0)), some (.ref (G' 0)), some (.int (iz i))]
def lwS (κ : jK) (b Len : Nat) (f : Nat → Int32) : Prop := (∃ (r : Nat) (cA : ClassId), κ.2.2.2.2.1 r = some (b, .inl (cA, Len, .inl f)) ∧ ∀ U : State, κ.2.2.2.2.2 U → ArrOfT U cA .int) ∧ Len ≤ 384
section LROWS
variable {κ : jK} {Γ : jG} {σ : jS} {nL : Nat} {w : jW} {k n : Nat} {pc : Nat} {L : List (Option Value)} {st : List Value} {cc : ByteArray} {own : String} {ret : Option FieldType}
theorem j_ialdC (C : jC κ Γ cc nL own ret) (r : Nat) {a : Nat} {cA : ClassId} {N : Nat} {f : Nat → Int32} {i : Int32} (he : κ.2.2.2.2.1 r = some (a, .inl (cA, N, .inl f))) (ht : ∀ U : State, κ.2.2.2.2.2 U → ArrOfT U cA .int) (hin : vp_in i N) (hd : decode cc pc = .ok (.iaload, 1)) (h : J κ Γ σ nL w k n (pc + 1) L (.int (f i.toNatClampNeg) :: st)) : J κ Γ σ nL w k n pc L (.int i :: .ref a :: st) := by
  obtain ⟨p, e, s, m, args, below, meth, c, A⟩ := Γ
  have C0 := C
  obtain ⟨hx, hb, hml, hown, hts, hA, hK, hX, -⟩ := C
  intro H locs ls hP hD hS hl
  obtain ⟨cell, q1, q2, q3, q4, q5⟩ := (jcP C0 hS) r _ he
  have hlt : i.toNatClampNeg < N := Nat.not_le.mp fun q => hin (Or.inr q)
  exact W.iald (v := .int (f i.toNatClampNeg)) hx hb q1 (ka_arr (ht s hX) q2 q3.2) q3.1 (fun z => hin (z.imp id (fun y => Nat.le_trans q4.1 y))) (by rw [q5 _ hlt]; show (arrV _ _ _).slots[_]? = _; rw [arrV_read _ _ hlt]) rfl rfl hd (h H locs ls hP hD hS hl)
theorem law_in {i Len : Nat} (h : i < Len) (hL : Len ≤ 384) : vp_in (iz i) Len ∧ (iz i).toNatClampNeg = i := by
  refine ⟨?_, iz_clampN (by omega)⟩
  unfold vp_in
  rw [show (0 : Int32) = iz 0 from rfl, iz_lt (by omega), iz_clampN (by omega)]
  omega
theorem law_ld (hκ : jStd κ) (C : jC κ Γ cL_law 4 RLaw ret) {G G' : Nat → Nat} {b Len i : Nat} {f : Nat → Int32} (hs : lwS κ b Len f) (j : Nat) {x : Int} (hx : Int32.ofInt x = iz j) (hj : i + j < Len) (d0 : decode cL_law pc = .ok (.aload_n 0, 1)) (d1 : decode cL_law (pc + 1) = .ok (.iload_n 3, 1)) (d2 : decode cL_law (pc + 1 + 1) = .ok (.iconst x, 1)) (d3 : decode cL_law (pc + 1 + 1 + 1) = .ok (.iadd, 1)) (d4 : decode cL_law (pc + 1 + 1 + 1 + 1) = .ok (.iaload, 1)) (K : J κ Γ σ 4 w k n (pc + 5) (lwL G G' b i) (.int (f (i + j)) :: st)) : J κ Γ σ 4 w k n pc (lwL G G' b i) st := by
  obtain ⟨⟨r, cA, hr, hcA⟩, hL⟩ := hs
  refine j_aload_n C (x := b) d0 rfl rfl ?_
  refine j_iload_n C (x := iz i) d1 rfl rfl ?_
  refine j_iconst C (v := iz j) d2 hx ?_
  refine j_iadd C d3 ?_
  have e : iz (i : Int) + iz (j : Int) = iz ((i + j : Nat) : Int) := by rw [iz_add]; rfl
  rw [e]
  obtain ⟨h1, h2⟩ := law_in hj hL
  refine j_ialdC C r hr hcA h1 d4 ?_
  rw [h2]
  exact K
end LROWS
theorem hL_x_post : GoodIn lw_all (wsV RLaw 13 yX0_post.cls yX0_post (ws_ yX0_post cX0_post 2 (some .int))) := lw_V q338 q339 q340 q113 q341
theorem hy_l_x_post : yX0_post.cls ≠ "java/lang/invoke/MethodHandle" ∧ yX0_post.cls ≠ "java/lang/invoke/VarHandle" ∧ (parseMethodDescriptor yX0_post.desc).map (fun d => d.parameters.length) = some 1 := ⟨by decide, by decide, by decide +kernel⟩
theorem hL_m_post : GoodIn lw_all (wsV RLaw 17 yX2_post.cls yX2_post (ws_ yX2_post cX2_post 2 (some .int))) := lw_V q1800 q1801 q1802 q115 q1803
theorem hy_l_m_post : yX2_post.cls ≠ "java/lang/invoke/MethodHandle" ∧ yX2_post.cls ≠ "java/lang/invoke/VarHandle" ∧ (parseMethodDescriptor yX2_post.desc).map (fun d => d.parameters.length) = some 1 := ⟨by decide, by decide, by decide +kernel⟩
theorem hL_x_posts : GoodIn lw_all (wsV RLaw 18 yX0_posts.cls yX0_posts (wsW_ yX0_posts cX0_posts 10 (some .int) [((22 : Nat), (126 : Nat), (152 : Nat), (133 : Nat)), ((127 : Nat), (149 : Nat), (152 : Nat), (133 : Nat)), ((22 : Nat), (126 : Nat), (157 : Nat), (135 : Nat)), ((127 : Nat), (149 : Nat), (157 : Nat), (135 : Nat)), ((22 : Nat), (126 : Nat), (162 : Nat), (137 : Nat)), ((127 : Nat), (149 : Nat), (162 : Nat), (137 : Nat))])) := lw_VW q377 q378 q379 q113 q380
theorem hy_l_x_posts : yX0_posts.cls ≠ "java/lang/invoke/MethodHandle" ∧ yX0_posts.cls ≠ "java/lang/invoke/VarHandle" ∧ (parseMethodDescriptor yX0_posts.desc).map (fun d => d.parameters.length) = some 3 := ⟨by decide, by decide, by decide +kernel⟩
theorem hL_m_posts : GoodIn lw_all (wsV RLaw 22 yX2_posts.cls yX2_posts (ws_ yX2_posts cX2_posts 9 (some .int))) := lw_V q1808 q1809 q1810 q115 q1811
theorem hy_l_m_posts : yX2_posts.cls ≠ "java/lang/invoke/MethodHandle" ∧ yX2_posts.cls ≠ "java/lang/invoke/VarHandle" ∧ (parseMethodDescriptor yX2_posts.desc).map (fun d => d.parameters.length) = some 3 := ⟨by decide, by decide, by decide +kernel⟩
theorem hL_x_mend : GoodIn lw_all (wsV RLaw 23 yX0_mend.cls yX0_mend (ws_ yX0_mend cX0_mend 4 (some .int))) := lw_V q529 q530 q531 q113 q532
theorem hy_l_x_mend : yX0_mend.cls ≠ "java/lang/invoke/MethodHandle" ∧ yX0_mend.cls ≠ "java/lang/invoke/VarHandle" ∧ (parseMethodDescriptor yX0_mend.desc).map (fun d => d.parameters.length) = some 3 := ⟨by decide, by decide, by decide +kernel⟩
theorem hL_m_mend : GoodIn lw_all (wsV RLaw 26 yX2_mend.cls yX2_mend (ws_ yX2_mend cX2_mend 6 (some .int))) := lw_V q1819 q1820 q1821 q115 q1822
theorem hy_l_m_mend : yX2_mend.cls ≠ "java/lang/invoke/MethodHandle" ∧ yX2_mend.cls ≠ "java/lang/invoke/VarHandle" ∧ (parseMethodDescriptor yX2_mend.desc).map (fun d => d.parameters.length) = some 3 := ⟨by decide, by decide, by decide +kernel⟩
theorem hL_x_of : GoodIn lw_all (wsV RLaw 27 yX0_of.cls yX0_of (ws_ yX0_of cX0_of 3 (some .int))) := lw_V q574 q575 q576 q113 q577
theorem hy_l_x_of : yX0_of.cls ≠ "java/lang/invoke/MethodHandle" ∧ yX0_of.cls ≠ "java/lang/invoke/VarHandle" ∧ (parseMethodDescriptor yX0_of.desc).map (fun d => d.parameters.length) = some 2 := ⟨by decide, by decide, by decide +kernel⟩
theorem hL_m_of : GoodIn lw_all (wsV RLaw 31 yX2_of.cls yX2_of (ws_ yX2_of cX2_of 3 (some .int))) := lw_V q1842 q1843 q1844 q115 q1845
theorem hy_l_m_of : yX2_of.cls ≠ "java/lang/invoke/MethodHandle" ∧ yX2_of.cls ≠ "java/lang/invoke/VarHandle" ∧ (parseMethodDescriptor yX2_of.desc).map (fun d => d.parameters.length) = some 2 := ⟨by decide, by decide, by decide +kernel⟩
theorem hL_x_feed : GoodIn lw_all (wsV RLaw 32 yX0_feed.cls yX0_feed (ws_ yX0_feed cX0_feed 2 (some .int))) := lw_V q578 q579 q580 q113 q581
theorem hy_l_x_feed : yX0_feed.cls ≠ "java/lang/invoke/MethodHandle" ∧ yX0_feed.cls ≠ "java/lang/invoke/VarHandle" ∧ (parseMethodDescriptor yX0_feed.desc).map (fun d => d.parameters.length) = some 1 := ⟨by decide, by decide, by decide +kernel⟩
theorem hL_m_feed : GoodIn lw_all (wsV RLaw 35 yX2_feed.cls yX2_feed (ws_ yX2_feed cX2_feed 2 (some .int))) := lw_V q1854 q1855 q1856 q115 q1857
theorem hy_l_m_feed : yX2_feed.cls ≠ "java/lang/invoke/MethodHandle" ∧ yX2_feed.cls ≠ "java/lang/invoke/VarHandle" ∧ (parseMethodDescriptor yX2_feed.desc).map (fun d => d.parameters.length) = some 1 := ⟨by decide, by decide, by decide +kernel⟩
theorem hL_x_law : GoodIn lw_all (wsV RLaw 36 yX0_law.cls yX0_law (ws_ yX0_law cX0_law 3 (some .int))) := lw_V q582 q583 q584 q113 q585
theorem hy_l_x_law : yX0_law.cls ≠ "java/lang/invoke/MethodHandle" ∧ yX0_law.cls ≠ "java/lang/invoke/VarHandle" ∧ (parseMethodDescriptor yX0_law.desc).map (fun d => d.parameters.length) = some 0 := ⟨by decide, by decide, by decide +kernel⟩
theorem hL_m_law : GoodIn lw_all (wsV RLaw 40 yX2_law.cls yX2_law (ws_ yX2_law cX2_law 4 (some .int))) := lw_V q1858 q1859 q1860 q115 q1861
theorem hy_l_m_law : yX2_law.cls ≠ "java/lang/invoke/MethodHandle" ∧ yX2_law.cls ≠ "java/lang/invoke/VarHandle" ∧ (parseMethodDescriptor yX2_law.desc).map (fun d => d.parameters.length) = some 0 := ⟨by decide, by decide, by decide +kernel⟩
theorem hL_x_round : GoodIn lw_all (wsV RLaw 41 yX0_round.cls yX0_round (ws_ yX0_round cX0_round 4 (some .int))) := lw_V q827 q828 q829 q113 q830
theorem hy_l_x_round : yX0_round.cls ≠ "java/lang/invoke/MethodHandle" ∧ yX0_round.cls ≠ "java/lang/invoke/VarHandle" ∧ (parseMethodDescriptor yX0_round.desc).map (fun d => d.parameters.length) = some 2 := ⟨by decide, by decide, by decide +kernel⟩
theorem hL_m_round : GoodIn lw_all (wsV RLaw 44 yX2_round.cls yX2_round (ws_ yX2_round cX2_round 4 (some .int))) := lw_V q1909 q1910 q1911 q115 q1912
theorem hy_l_m_round : yX2_round.cls ≠ "java/lang/invoke/MethodHandle" ∧ yX2_round.cls ≠ "java/lang/invoke/VarHandle" ∧ (parseMethodDescriptor yX2_round.desc).map (fun d => d.parameters.length) = some 2 := ⟨by decide, by decide, by decide +kernel⟩
theorem hL_x_first : GoodIn lw_all (wsV RLaw 45 yX0_first.cls yX0_first (ws_ yX0_first cX0_first 4 (some .int))) := lw_V q862 q863 q864 q113 q865
theorem hy_l_x_first : yX0_first.cls ≠ "java/lang/invoke/MethodHandle" ∧ yX0_first.cls ≠ "java/lang/invoke/VarHandle" ∧ (parseMethodDescriptor yX0_first.desc).map (fun d => d.parameters.length) = some 2 := ⟨by decide, by decide, by decide +kernel⟩
theorem hL_m_first : GoodIn lw_all (wsV RLaw 48 yX2_first.cls yX2_first (ws_ yX2_first cX2_first 5 (some .int))) := lw_V q1946 q1947 q1948 q115 q1949
theorem hy_l_m_first : yX2_first.cls ≠ "java/lang/invoke/MethodHandle" ∧ yX2_first.cls ≠ "java/lang/invoke/VarHandle" ∧ (parseMethodDescriptor yX2_first.desc).map (fun d => d.parameters.length) = some 2 := ⟨by decide, by decide, by decide +kernel⟩
theorem hL_x_by : GoodIn lw_all (wsV RLaw 49 yX0_by.cls yX0_by (ws_ yX0_by cX0_by 6 (some .int))) := lw_V q883 q884 q885 q113 q886
theorem hy_l_x_by : yX0_by.cls ≠ "java/lang/invoke/MethodHandle" ∧ yX0_by.cls ≠ "java/lang/invoke/VarHandle" ∧ (parseMethodDescriptor yX0_by.desc).map (fun d => d.parameters.length) = some 3 := ⟨by decide, by decide, by decide +kernel⟩
theorem hL_m_by : GoodIn lw_all (wsV RLaw 52 yX2_by.cls yX2_by (ws_ yX2_by cX2_by 6 (some .int))) := lw_V q1954 q1955 q1956 q115 q1957
theorem hy_l_m_by : yX2_by.cls ≠ "java/lang/invoke/MethodHandle" ∧ yX2_by.cls ≠ "java/lang/invoke/VarHandle" ∧ (parseMethodDescriptor yX2_by.desc).map (fun d => d.parameters.length) = some 3 := ⟨by decide, by decide, by decide +kernel⟩
theorem hL_x_unseen : GoodIn lw_all (wsV RLaw 53 yX0_unseen.cls yX0_unseen (ws_ yX0_unseen cX0_unseen 6 (some .int))) := lw_V q890 q891 q892 q113 q893
theorem hy_l_x_unseen : yX0_unseen.cls ≠ "java/lang/invoke/MethodHandle" ∧ yX0_unseen.cls ≠ "java/lang/invoke/VarHandle" ∧ (parseMethodDescriptor yX0_unseen.desc).map (fun d => d.parameters.length) = some 4 := ⟨by decide, by decide, by decide +kernel⟩
theorem hL_m_unseen : GoodIn lw_all (wsV RLaw 57 yX2_unseen.cls yX2_unseen (ws_ yX2_unseen cX2_unseen 6 (some .int))) := lw_V q1961 q1962 q1963 q115 q1964
theorem hy_l_m_unseen : yX2_unseen.cls ≠ "java/lang/invoke/MethodHandle" ∧ yX2_unseen.cls ≠ "java/lang/invoke/VarHandle" ∧ (parseMethodDescriptor yX2_unseen.desc).map (fun d => d.parameters.length) = some 4 := ⟨by decide, by decide, by decide +kernel⟩
theorem hL_x_lost : GoodIn lw_all (wsV RLaw 58 yX0_lost.cls yX0_lost (ws_ yX0_lost cX0_lost 8 (some .int))) := lw_V q903 q904 q905 q113 q906
theorem hy_l_x_lost : yX0_lost.cls ≠ "java/lang/invoke/MethodHandle" ∧ yX0_lost.cls ≠ "java/lang/invoke/VarHandle" ∧ (parseMethodDescriptor yX0_lost.desc).map (fun d => d.parameters.length) = some 4 := ⟨by decide, by decide, by decide +kernel⟩
theorem hL_m_lost : GoodIn lw_all (wsV RLaw 61 yX2_lost.cls yX2_lost (ws_ yX2_lost cX2_lost 9 (some .int))) := lw_V q1978 q1979 q1980 q115 q1981
theorem hy_l_m_lost : yX2_lost.cls ≠ "java/lang/invoke/MethodHandle" ∧ yX2_lost.cls ≠ "java/lang/invoke/VarHandle" ∧ (parseMethodDescriptor yX2_lost.desc).map (fun d => d.parameters.length) = some 4 := ⟨by decide, by decide, by decide +kernel⟩
theorem hL_x_red : GoodIn lw_all (wsV RLaw 62 yX0_red.cls yX0_red (ws_ yX0_red cX0_red 6 (some .int))) := lw_V q948 q949 q950 q113 q951
theorem hy_l_x_red : yX0_red.cls ≠ "java/lang/invoke/MethodHandle" ∧ yX0_red.cls ≠ "java/lang/invoke/VarHandle" ∧ (parseMethodDescriptor yX0_red.desc).map (fun d => d.parameters.length) = some 2 := ⟨by decide, by decide, by decide +kernel⟩
theorem hL_m_red : GoodIn lw_all (wsV RLaw 65 yX2_red.cls yX2_red (ws_ yX2_red cX2_red 6 (some .int))) := lw_V q1994 q1995 q1996 q115 q1997
theorem hy_l_m_red : yX2_red.cls ≠ "java/lang/invoke/MethodHandle" ∧ yX2_red.cls ≠ "java/lang/invoke/VarHandle" ∧ (parseMethodDescriptor yX2_red.desc).map (fun d => d.parameters.length) = some 2 := ⟨by decide, by decide, by decide +kernel⟩
theorem hL_x_gap : GoodIn lw_all (wsV RLaw 66 yX0_gap.cls yX0_gap (ws_ yX0_gap cX0_gap 4 (some .int))) := lw_V q952 q953 q954 q113 q955
theorem hy_l_x_gap : yX0_gap.cls ≠ "java/lang/invoke/MethodHandle" ∧ yX0_gap.cls ≠ "java/lang/invoke/VarHandle" ∧ (parseMethodDescriptor yX0_gap.desc).map (fun d => d.parameters.length) = some 2 := ⟨by decide, by decide, by decide +kernel⟩
theorem hL_m_gap : GoodIn lw_all (wsV RLaw 69 yX2_gap.cls yX2_gap (ws_ yX2_gap cX2_gap 4 (some .int))) := lw_V q1998 q1999 q2000 q115 q2001
theorem hy_l_m_gap : yX2_gap.cls ≠ "java/lang/invoke/MethodHandle" ∧ yX2_gap.cls ≠ "java/lang/invoke/VarHandle" ∧ (parseMethodDescriptor yX2_gap.desc).map (fun d => d.parameters.length) = some 2 := ⟨by decide, by decide, by decide +kernel⟩
theorem hL_x_late : GoodIn lw_all (wsV RLaw 70 yX0_late.cls yX0_late (ws_ yX0_late cX0_late 5 (some .int))) := lw_V q964 q965 q966 q113 q967
theorem hy_l_x_late : yX0_late.cls ≠ "java/lang/invoke/MethodHandle" ∧ yX0_late.cls ≠ "java/lang/invoke/VarHandle" ∧ (parseMethodDescriptor yX0_late.desc).map (fun d => d.parameters.length) = some 1 := ⟨by decide, by decide, by decide +kernel⟩
theorem hL_m_late : GoodIn lw_all (wsV RLaw 73 yX2_late.cls yX2_late (ws_ yX2_late cX2_late 5 (some .int))) := lw_V q2006 q2007 q2008 q115 q2009
theorem hy_l_m_late : yX2_late.cls ≠ "java/lang/invoke/MethodHandle" ∧ yX2_late.cls ≠ "java/lang/invoke/VarHandle" ∧ (parseMethodDescriptor yX2_late.desc).map (fun d => d.parameters.length) = some 1 := ⟨by decide, by decide, by decide +kernel⟩
theorem hL_x_shortest : GoodIn lw_all (wsV RLaw 74 yX0_shortest.cls yX0_shortest (ws_ yX0_shortest cX0_shortest 4 (some .int))) := lw_V q968 q969 q970 q113 q971
theorem hy_l_x_shortest : yX0_shortest.cls ≠ "java/lang/invoke/MethodHandle" ∧ yX0_shortest.cls ≠ "java/lang/invoke/VarHandle" ∧ (parseMethodDescriptor yX0_shortest.desc).map (fun d => d.parameters.length) = some 2 := ⟨by decide, by decide, by decide +kernel⟩
theorem hL_m_shortest : GoodIn lw_all (wsV RLaw 77 yX2_shortest.cls yX2_shortest (ws_ yX2_shortest cX2_shortest 4 (some .int))) := lw_V q2010 q2011 q2012 q115 q2013
theorem hy_l_m_shortest : yX2_shortest.cls ≠ "java/lang/invoke/MethodHandle" ∧ yX2_shortest.cls ≠ "java/lang/invoke/VarHandle" ∧ (parseMethodDescriptor yX2_shortest.desc).map (fun d => d.parameters.length) = some 2 := ⟨by decide, by decide, by decide +kernel⟩
theorem hL_x_leftOut : GoodIn lw_all (wsV RLaw 78 yX0_leftOut.cls yX0_leftOut (ws_ yX0_leftOut cX0_leftOut 7 (some .int))) := lw_V q993 q994 q995 q113 q996
theorem hy_l_x_leftOut : yX0_leftOut.cls ≠ "java/lang/invoke/MethodHandle" ∧ yX0_leftOut.cls ≠ "java/lang/invoke/VarHandle" ∧ (parseMethodDescriptor yX0_leftOut.desc).map (fun d => d.parameters.length) = some 2 := ⟨by decide, by decide, by decide +kernel⟩
theorem hL_m_leftOut : GoodIn lw_all (wsV RLaw 81 yX2_leftOut.cls yX2_leftOut (ws_ yX2_leftOut cX2_leftOut 7 (some .int))) := lw_V q2035 q2036 q2037 q115 q2038
theorem hy_l_m_leftOut : yX2_leftOut.cls ≠ "java/lang/invoke/MethodHandle" ∧ yX2_leftOut.cls ≠ "java/lang/invoke/VarHandle" ∧ (parseMethodDescriptor yX2_leftOut.desc).map (fun d => d.parameters.length) = some 2 := ⟨by decide, by decide, by decide +kernel⟩
theorem hL_x_thief : GoodIn lw_all (wsV RLaw 82 yX0_thief.cls yX0_thief (ws_ yX0_thief cX0_thief 6 (some .int))) := lw_V q997 q998 q999 q113 q1000
theorem hy_l_x_thief : yX0_thief.cls ≠ "java/lang/invoke/MethodHandle" ∧ yX0_thief.cls ≠ "java/lang/invoke/VarHandle" ∧ (parseMethodDescriptor yX0_thief.desc).map (fun d => d.parameters.length) = some 4 := ⟨by decide, by decide, by decide +kernel⟩
theorem hL_m_thief : GoodIn lw_all (wsV RLaw 85 yX2_thief.cls yX2_thief (ws_ yX2_thief cX2_thief 6 (some .int))) := lw_V q2039 q2040 q2041 q115 q2042
theorem hy_l_m_thief : yX2_thief.cls ≠ "java/lang/invoke/MethodHandle" ∧ yX2_thief.cls ≠ "java/lang/invoke/VarHandle" ∧ (parseMethodDescriptor yX2_thief.desc).map (fun d => d.parameters.length) = some 4 := ⟨by decide, by decide, by decide +kernel⟩
theorem hL_x_safe : GoodIn lw_all (wsV RLaw 86 yX0_safe.cls yX0_safe (ws_ yX0_safe cX0_safe 6 (some .int))) := lw_V q1008 q1009 q1010 q113 q1011
theorem hy_l_x_safe : yX0_safe.cls ≠ "java/lang/invoke/MethodHandle" ∧ yX0_safe.cls ≠ "java/lang/invoke/VarHandle" ∧ (parseMethodDescriptor yX0_safe.desc).map (fun d => d.parameters.length) = some 2 := ⟨by decide, by decide, by decide +kernel⟩
theorem hL_m_safe : GoodIn lw_all (wsV RLaw 89 yX2_safe.cls yX2_safe (ws_ yX2_safe cX2_safe 6 (some .int))) := lw_V q2047 q2048 q2049 q115 q2050
theorem hy_l_m_safe : yX2_safe.cls ≠ "java/lang/invoke/MethodHandle" ∧ yX2_safe.cls ≠ "java/lang/invoke/VarHandle" ∧ (parseMethodDescriptor yX2_safe.desc).map (fun d => d.parameters.length) = some 2 := ⟨by decide, by decide, by decide +kernel⟩
theorem hL_x_two : GoodIn lw_all (wsV RLaw 90 yX0_two.cls yX0_two (ws_ yX0_two cX0_two 5 (some .int))) := lw_V q1012 q1013 q1014 q113 q1015
theorem hy_l_x_two : yX0_two.cls ≠ "java/lang/invoke/MethodHandle" ∧ yX0_two.cls ≠ "java/lang/invoke/VarHandle" ∧ (parseMethodDescriptor yX0_two.desc).map (fun d => d.parameters.length) = some 3 := ⟨by decide, by decide, by decide +kernel⟩
theorem hL_m_two : GoodIn lw_all (wsV RLaw 93 yX2_two.cls yX2_two (ws_ yX2_two cX2_two 5 (some .int))) := lw_V q2051 q2052 q2053 q115 q2054
theorem hy_l_m_two : yX2_two.cls ≠ "java/lang/invoke/MethodHandle" ∧ yX2_two.cls ≠ "java/lang/invoke/VarHandle" ∧ (parseMethodDescriptor yX2_two.desc).map (fun d => d.parameters.length) = some 3 := ⟨by decide, by decide, by decide +kernel⟩
theorem hL_x_success : GoodIn lw_all (wsV RLaw 94 yX0_success.cls yX0_success (ws_ yX0_success cX0_success 6 (some .int))) := lw_V q1028 q1029 q1030 q113 q1031
theorem hy_l_x_success : yX0_success.cls ≠ "java/lang/invoke/MethodHandle" ∧ yX0_success.cls ≠ "java/lang/invoke/VarHandle" ∧ (parseMethodDescriptor yX0_success.desc).map (fun d => d.parameters.length) = some 4 := ⟨by decide, by decide, by decide +kernel⟩
theorem hL_m_success : GoodIn lw_all (wsV RLaw 97 yX2_success.cls yX2_success (ws_ yX2_success cX2_success 6 (some .int))) := lw_V q2063 q2064 q2065 q115 q2066
theorem hy_l_m_success : yX2_success.cls ≠ "java/lang/invoke/MethodHandle" ∧ yX2_success.cls ≠ "java/lang/invoke/VarHandle" ∧ (parseMethodDescriptor yX2_success.desc).map (fun d => d.parameters.length) = some 4 := ⟨by decide, by decide, by decide +kernel⟩
theorem hL_x_bestMinute : GoodIn lw_all (wsV RLaw 98 yX0_bestMinute.cls yX0_bestMinute (ws_ yX0_bestMinute cX0_bestMinute 7 (some .int))) := lw_V q1050 q1051 q1052 q113 q1053
theorem hy_l_x_bestMinute : yX0_bestMinute.cls ≠ "java/lang/invoke/MethodHandle" ∧ yX0_bestMinute.cls ≠ "java/lang/invoke/VarHandle" ∧ (parseMethodDescriptor yX0_bestMinute.desc).map (fun d => d.parameters.length) = some 4 := ⟨by decide, by decide, by decide +kernel⟩
theorem hL_m_bestMinute : GoodIn lw_all (wsV RLaw 101 yX2_bestMinute.cls yX2_bestMinute (ws_ yX2_bestMinute cX2_bestMinute 7 (some .int))) := lw_V q2086 q2087 q2088 q115 q2089
theorem hy_l_m_bestMinute : yX2_bestMinute.cls ≠ "java/lang/invoke/MethodHandle" ∧ yX2_bestMinute.cls ≠ "java/lang/invoke/VarHandle" ∧ (parseMethodDescriptor yX2_bestMinute.desc).map (fun d => d.parameters.length) = some 4 := ⟨by decide, by decide, by decide +kernel⟩
theorem hL_x_mix : GoodIn lw_all (wsV RLaw 102 yX0_mix.cls yX0_mix (ws_ yX0_mix cX0_mix 9 (some .int))) := lw_V q1058 q1059 q1060 q113 q1061
theorem hy_l_x_mix : yX0_mix.cls ≠ "java/lang/invoke/MethodHandle" ∧ yX0_mix.cls ≠ "java/lang/invoke/VarHandle" ∧ (parseMethodDescriptor yX0_mix.desc).map (fun d => d.parameters.length) = some 3 := ⟨by decide, by decide, by decide +kernel⟩
theorem hL_m_mix : GoodIn lw_all (wsV RLaw 105 yX2_mix.cls yX2_mix (ws_ yX2_mix cX2_mix 9 (some .int))) := lw_V q2094 q2095 q2096 q115 q2097
theorem hy_l_m_mix : yX2_mix.cls ≠ "java/lang/invoke/MethodHandle" ∧ yX2_mix.cls ≠ "java/lang/invoke/VarHandle" ∧ (parseMethodDescriptor yX2_mix.desc).map (fun d => d.parameters.length) = some 3 := ⟨by decide, by decide, by decide +kernel⟩
theorem hL_x_paper : GoodIn lw_all (wsV RLaw 106 yX0_paper.cls yX0_paper (ws_ yX0_paper cX0_paper 4 (some .int))) := lw_V q1062 q1063 q1064 q113 q1065
theorem hy_l_x_paper : yX0_paper.cls ≠ "java/lang/invoke/MethodHandle" ∧ yX0_paper.cls ≠ "java/lang/invoke/VarHandle" ∧ (parseMethodDescriptor yX0_paper.desc).map (fun d => d.parameters.length) = some 2 := ⟨by decide, by decide, by decide +kernel⟩
theorem hL_m_paper : GoodIn lw_all (wsV RLaw 109 yX2_paper.cls yX2_paper (ws_ yX2_paper cX2_paper 11 (some .int))) := lw_V q2098 q2099 q2100 q115 q2101
theorem hy_l_m_paper : yX2_paper.cls ≠ "java/lang/invoke/MethodHandle" ∧ yX2_paper.cls ≠ "java/lang/invoke/VarHandle" ∧ (parseMethodDescriptor yX2_paper.desc).map (fun d => d.parameters.length) = some 2 := ⟨by decide, by decide, by decide +kernel⟩
theorem hL_x_which : GoodIn lw_all (wsV RLaw 110 yX0_which.cls yX0_which (ws_ yX0_which cX0_which 5 (some .int))) := lw_V q1096 q1097 q1098 q113 q1099
theorem hy_l_x_which : yX0_which.cls ≠ "java/lang/invoke/MethodHandle" ∧ yX0_which.cls ≠ "java/lang/invoke/VarHandle" ∧ (parseMethodDescriptor yX0_which.desc).map (fun d => d.parameters.length) = some 1 := ⟨by decide, by decide, by decide +kernel⟩
theorem hL_m_which : GoodIn lw_all (wsV RLaw 113 yX2_which.cls yX2_which (ws_ yX2_which cX2_which 3 (some .int))) := lw_V q2106 q2107 q2108 q115 q2109
theorem hy_l_m_which : yX2_which.cls ≠ "java/lang/invoke/MethodHandle" ∧ yX2_which.cls ≠ "java/lang/invoke/VarHandle" ∧ (parseMethodDescriptor yX2_which.desc).map (fun d => d.parameters.length) = some 1 := ⟨by decide, by decide, by decide +kernel⟩
theorem hL_x_fit : GoodIn lw_all (wsV RLaw 114 yX0_fit.cls yX0_fit (ws_ yX0_fit cX0_fit 4 (some .int))) := lw_V q1104 q1105 q1106 q113 q1107
theorem hy_l_x_fit : yX0_fit.cls ≠ "java/lang/invoke/MethodHandle" ∧ yX0_fit.cls ≠ "java/lang/invoke/VarHandle" ∧ (parseMethodDescriptor yX0_fit.desc).map (fun d => d.parameters.length) = some 2 := ⟨by decide, by decide, by decide +kernel⟩
theorem hL_m_fit : GoodIn lw_all (wsV RLaw 117 yX2_fit.cls yX2_fit (ws_ yX2_fit cX2_fit 7 (some .int))) := lw_V q2114 q2115 q2116 q115 q2117
theorem hy_l_m_fit : yX2_fit.cls ≠ "java/lang/invoke/MethodHandle" ∧ yX2_fit.cls ≠ "java/lang/invoke/VarHandle" ∧ (parseMethodDescriptor yX2_fit.desc).map (fun d => d.parameters.length) = some 2 := ⟨by decide, by decide, by decide +kernel⟩
theorem hL_x_hang : GoodIn lw_all (wsV RLaw 118 yX0_hang.cls yX0_hang (ws_ yX0_hang cX0_hang 9 (some .int))) := lw_V q1112 q1113 q1114 q113 q1115
theorem hy_l_x_hang : yX0_hang.cls ≠ "java/lang/invoke/MethodHandle" ∧ yX0_hang.cls ≠ "java/lang/invoke/VarHandle" ∧ (parseMethodDescriptor yX0_hang.desc).map (fun d => d.parameters.length) = some 2 := ⟨by decide, by decide, by decide +kernel⟩
theorem hL_m_hang : GoodIn lw_all (wsV RLaw 121 yX2_hang.cls yX2_hang (ws_ yX2_hang cX2_hang 6 (some .int))) := lw_V q2118 q2119 q2120 q115 q2121
theorem hy_l_m_hang : yX2_hang.cls ≠ "java/lang/invoke/MethodHandle" ∧ yX2_hang.cls ≠ "java/lang/invoke/VarHandle" ∧ (parseMethodDescriptor yX2_hang.desc).map (fun d => d.parameters.length) = some 2 := ⟨by decide, by decide, by decide +kernel⟩
theorem hL_x_drawn : GoodIn lw_all (wsV RLaw 122 yX0_drawn.cls yX0_drawn (ws_ yX0_drawn cX0_drawn 10 (some .int))) := lw_V q1121 q1122 q1123 q113 q1124
theorem hy_l_x_drawn : yX0_drawn.cls ≠ "java/lang/invoke/MethodHandle" ∧ yX0_drawn.cls ≠ "java/lang/invoke/VarHandle" ∧ (parseMethodDescriptor yX0_drawn.desc).map (fun d => d.parameters.length) = some 3 := ⟨by decide, by decide, by decide +kernel⟩
theorem hL_m_drawn : GoodIn lw_all (wsV RLaw 125 yX2_drawn.cls yX2_drawn (ws_ yX2_drawn cX2_drawn 14 (some .int))) := lw_V q2130 q2131 q2132 q115 q2133
theorem hy_l_m_drawn : yX2_drawn.cls ≠ "java/lang/invoke/MethodHandle" ∧ yX2_drawn.cls ≠ "java/lang/invoke/VarHandle" ∧ (parseMethodDescriptor yX2_drawn.desc).map (fun d => d.parameters.length) = some 3 := ⟨by decide, by decide, by decide +kernel⟩
theorem hL_x_walk : GoodIn lw_all (wsV RLaw 126 yX0_walk.cls yX0_walk (ws_ yX0_walk cX0_walk 3 (some .int))) := lw_V q1130 q1131 q1132 q113 q1133
theorem hy_l_x_walk : yX0_walk.cls ≠ "java/lang/invoke/MethodHandle" ∧ yX0_walk.cls ≠ "java/lang/invoke/VarHandle" ∧ (parseMethodDescriptor yX0_walk.desc).map (fun d => d.parameters.length) = some 1 := ⟨by decide, by decide, by decide +kernel⟩
theorem hL_m_walk : GoodIn lw_all (wsV RLaw 129 yX2_walk.cls yX2_walk (ws_ yX2_walk cX2_walk 3 (some .int))) := lw_V q2135 q2136 q2137 q115 q2138
theorem hy_l_m_walk : yX2_walk.cls ≠ "java/lang/invoke/MethodHandle" ∧ yX2_walk.cls ≠ "java/lang/invoke/VarHandle" ∧ (parseMethodDescriptor yX2_walk.desc).map (fun d => d.parameters.length) = some 1 := ⟨by decide, by decide, by decide +kernel⟩
theorem hL_x_waits : GoodIn lw_all (wsV RLaw 130 yX0_waits.cls yX0_waits (ws_ yX0_waits cX0_waits 2 (some .int))) := lw_V q1134 q1135 q1136 q113 q1137
theorem hy_l_x_waits : yX0_waits.cls ≠ "java/lang/invoke/MethodHandle" ∧ yX0_waits.cls ≠ "java/lang/invoke/VarHandle" ∧ (parseMethodDescriptor yX0_waits.desc).map (fun d => d.parameters.length) = some 1 := ⟨by decide, by decide, by decide +kernel⟩
theorem hL_m_waits : GoodIn lw_all (wsV RLaw 133 yX2_waits.cls yX2_waits (ws_ yX2_waits cX2_waits 2 (some .int))) := lw_V q2139 q2140 q2141 q115 q2142
theorem hy_l_m_waits : yX2_waits.cls ≠ "java/lang/invoke/MethodHandle" ∧ yX2_waits.cls ≠ "java/lang/invoke/VarHandle" ∧ (parseMethodDescriptor yX2_waits.desc).map (fun d => d.parameters.length) = some 1 := ⟨by decide, by decide, by decide +kernel⟩
theorem hL_x_home : GoodIn lw_all (wsV RLaw 134 yX0_home.cls yX0_home (ws_ yX0_home cX0_home 2 (some .int))) := lw_V q1138 q1139 q1140 q113 q1141
theorem hy_l_x_home : yX0_home.cls ≠ "java/lang/invoke/MethodHandle" ∧ yX0_home.cls ≠ "java/lang/invoke/VarHandle" ∧ (parseMethodDescriptor yX0_home.desc).map (fun d => d.parameters.length) = some 0 := ⟨by decide, by decide, by decide +kernel⟩
theorem hL_m_home : GoodIn lw_all (wsV RLaw 137 yX2_home.cls yX2_home (ws_ yX2_home cX2_home 2 (some .int))) := lw_V q2143 q2144 q2145 q115 q2146
theorem hy_l_m_home : yX2_home.cls ≠ "java/lang/invoke/MethodHandle" ∧ yX2_home.cls ≠ "java/lang/invoke/VarHandle" ∧ (parseMethodDescriptor yX2_home.desc).map (fun d => d.parameters.length) = some 0 := ⟨by decide, by decide, by decide +kernel⟩
theorem hL_x_led : GoodIn lw_all (wsV RLaw 138 yX0_led.cls yX0_led (ws_ yX0_led cX0_led 2 (some .int))) := lw_V q1142 q1143 q1144 q113 q1145
theorem hy_l_x_led : yX0_led.cls ≠ "java/lang/invoke/MethodHandle" ∧ yX0_led.cls ≠ "java/lang/invoke/VarHandle" ∧ (parseMethodDescriptor yX0_led.desc).map (fun d => d.parameters.length) = some 1 := ⟨by decide, by decide, by decide +kernel⟩
theorem hL_m_led : GoodIn lw_all (wsV RLaw 141 yX2_led.cls yX2_led (ws_ yX2_led cX2_led 2 (some .int))) := lw_V q2147 q2148 q2149 q115 q2150
theorem hy_l_m_led : yX2_led.cls ≠ "java/lang/invoke/MethodHandle" ∧ yX2_led.cls ≠ "java/lang/invoke/VarHandle" ∧ (parseMethodDescriptor yX2_led.desc).map (fun d => d.parameters.length) = some 1 := ⟨by decide, by decide, by decide +kernel⟩
theorem hL_x_image : GoodIn lw_all (wsV RLaw 142 yX0_image.cls yX0_image (ws_ yX0_image cX0_image 2 (some .int))) := lw_V q1146 q1147 q1148 q113 q1149
theorem hy_l_x_image : yX0_image.cls ≠ "java/lang/invoke/MethodHandle" ∧ yX0_image.cls ≠ "java/lang/invoke/VarHandle" ∧ (parseMethodDescriptor yX0_image.desc).map (fun d => d.parameters.length) = some 0 := ⟨by decide, by decide, by decide +kernel⟩
theorem hL_m_image : GoodIn lw_all (wsV RLaw 145 yX2_image.cls yX2_image (ws_ yX2_image cX2_image 2 (some .int))) := lw_V q2151 q2152 q2153 q115 q2154
theorem hy_l_m_image : yX2_image.cls ≠ "java/lang/invoke/MethodHandle" ∧ yX2_image.cls ≠ "java/lang/invoke/VarHandle" ∧ (parseMethodDescriptor yX2_image.desc).map (fun d => d.parameters.length) = some 0 := ⟨by decide, by decide, by decide +kernel⟩
theorem hL_x_back : GoodIn lw_all (wsV RLaw 146 yX0_back.cls yX0_back (ws_ yX0_back cX0_back 2 (some .int))) := lw_V q1150 q1151 q1152 q113 q1153
theorem hy_l_x_back : yX0_back.cls ≠ "java/lang/invoke/MethodHandle" ∧ yX0_back.cls ≠ "java/lang/invoke/VarHandle" ∧ (parseMethodDescriptor yX0_back.desc).map (fun d => d.parameters.length) = some 0 := ⟨by decide, by decide, by decide +kernel⟩
theorem hL_m_back : GoodIn lw_all (wsV RLaw 149 yX2_back.cls yX2_back (ws_ yX2_back cX2_back 2 (some .int))) := lw_V q2155 q2156 q2157 q115 q2158
theorem hy_l_m_back : yX2_back.cls ≠ "java/lang/invoke/MethodHandle" ∧ yX2_back.cls ≠ "java/lang/invoke/VarHandle" ∧ (parseMethodDescriptor yX2_back.desc).map (fun d => d.parameters.length) = some 0 := ⟨by decide, by decide, by decide +kernel⟩
theorem hL_x_undo : GoodIn lw_all (wsV RLaw 150 yX0_undo.cls yX0_undo (ws_ yX0_undo cX0_undo 1 (some .int))) := lw_V q517 q518 q519 q113 q520
theorem hy_l_x_undo : yX0_undo.cls ≠ "java/lang/invoke/MethodHandle" ∧ yX0_undo.cls ≠ "java/lang/invoke/VarHandle" ∧ (parseMethodDescriptor yX0_undo.desc).map (fun d => d.parameters.length) = some 0 := ⟨by decide, by decide, by decide +kernel⟩
theorem hL_m_undo : GoodIn lw_all (wsV RLaw 153 yX2_undo.cls yX2_undo (ws_ yX2_undo cX2_undo 1 (some .int))) := lw_V q1846 q1847 q1848 q115 q1849
theorem hy_l_m_undo : yX2_undo.cls ≠ "java/lang/invoke/MethodHandle" ∧ yX2_undo.cls ≠ "java/lang/invoke/VarHandle" ∧ (parseMethodDescriptor yX2_undo.desc).map (fun d => d.parameters.length) = some 0 := ⟨by decide, by decide, by decide +kernel⟩
theorem hL_x_redo : GoodIn lw_all (wsV RLaw 154 yX0_redo.cls yX0_redo (ws_ yX0_redo cX0_redo 1 (some .int))) := lw_V q525 q526 q527 q113 q528
theorem hy_l_x_redo : yX0_redo.cls ≠ "java/lang/invoke/MethodHandle" ∧ yX0_redo.cls ≠ "java/lang/invoke/VarHandle" ∧ (parseMethodDescriptor yX0_redo.desc).map (fun d => d.parameters.length) = some 0 := ⟨by decide, by decide, by decide +kernel⟩
theorem hL_m_redo : GoodIn lw_all (wsV RLaw 157 yX2_redo.cls yX2_redo (ws_ yX2_redo cX2_redo 1 (some .int))) := lw_V q1850 q1851 q1852 q115 q1853
theorem hy_l_m_redo : yX2_redo.cls ≠ "java/lang/invoke/MethodHandle" ∧ yX2_redo.cls ≠ "java/lang/invoke/VarHandle" ∧ (parseMethodDescriptor yX2_redo.desc).map (fun d => d.parameters.length) = some 0 := ⟨by decide, by decide, by decide +kernel⟩
theorem hL_x_body : GoodIn lw_all (wsV RLaw 158 yX0_body.cls yX0_body (ws_ yX0_body cX0_body 2 (some .int))) := lw_V q1154 q1155 q1156 q113 q1157
theorem hy_l_x_body : yX0_body.cls ≠ "java/lang/invoke/MethodHandle" ∧ yX0_body.cls ≠ "java/lang/invoke/VarHandle" ∧ (parseMethodDescriptor yX0_body.desc).map (fun d => d.parameters.length) = some 1 := ⟨by decide, by decide, by decide +kernel⟩
theorem hL_m_body : GoodIn lw_all (wsV RLaw 161 yX2_body.cls yX2_body (ws_ yX2_body cX2_body 2 (some .int))) := lw_V q2159 q2160 q2161 q115 q2162
theorem hy_l_m_body : yX2_body.cls ≠ "java/lang/invoke/MethodHandle" ∧ yX2_body.cls ≠ "java/lang/invoke/VarHandle" ∧ (parseMethodDescriptor yX2_body.desc).map (fun d => d.parameters.length) = some 1 := ⟨by decide, by decide, by decide +kernel⟩
theorem hL_x_act : GoodIn lw_all (wsV RLaw 162 yX0_act.cls yX0_act (ws_ yX0_act cX0_act 6 (some .int))) := lw_V q1267 q1268 q1269 q113 q1270
theorem hy_l_x_act : yX0_act.cls ≠ "java/lang/invoke/MethodHandle" ∧ yX0_act.cls ≠ "java/lang/invoke/VarHandle" ∧ (parseMethodDescriptor yX0_act.desc).map (fun d => d.parameters.length) = some 3 := ⟨by decide, by decide, by decide +kernel⟩
theorem hL_m_act : GoodIn lw_all (wsV RLaw 165 yX2_act.cls yX2_act (ws_ yX2_act cX2_act 5 (some .int))) := lw_V q2163 q2164 q2165 q115 q2166
theorem hy_l_m_act : yX2_act.cls ≠ "java/lang/invoke/MethodHandle" ∧ yX2_act.cls ≠ "java/lang/invoke/VarHandle" ∧ (parseMethodDescriptor yX2_act.desc).map (fun d => d.parameters.length) = some 3 := ⟨by decide, by decide, by decide +kernel⟩
theorem hL_x_trace : GoodIn lw_all (wsV RLaw 166 yX0_trace.cls yX0_trace (ws_ yX0_trace cX0_trace 2 (some .int))) := lw_V q1414 q1415 q1416 q113 q1417
theorem hy_l_x_trace : yX0_trace.cls ≠ "java/lang/invoke/MethodHandle" ∧ yX0_trace.cls ≠ "java/lang/invoke/VarHandle" ∧ (parseMethodDescriptor yX0_trace.desc).map (fun d => d.parameters.length) = some 1 := ⟨by decide, by decide, by decide +kernel⟩
theorem hL_m_trace : GoodIn lw_all (wsV RLaw 169 yX2_trace.cls yX2_trace (ws_ yX2_trace cX2_trace 2 (some .int))) := lw_V q2190 q2191 q2192 q115 q2193
theorem hy_l_m_trace : yX2_trace.cls ≠ "java/lang/invoke/MethodHandle" ∧ yX2_trace.cls ≠ "java/lang/invoke/VarHandle" ∧ (parseMethodDescriptor yX2_trace.desc).map (fun d => d.parameters.length) = some 1 := ⟨by decide, by decide, by decide +kernel⟩
theorem hL_x_keep : GoodIn lw_all (wsV RLaw 170 yX0_keep.cls yX0_keep (ws_ yX0_keep cX0_keep 3 (some .int))) := lw_V q1418 q1419 q1420 q113 q1421
theorem hy_l_x_keep : yX0_keep.cls ≠ "java/lang/invoke/MethodHandle" ∧ yX0_keep.cls ≠ "java/lang/invoke/VarHandle" ∧ (parseMethodDescriptor yX0_keep.desc).map (fun d => d.parameters.length) = some 2 := ⟨by decide, by decide, by decide +kernel⟩
theorem hL_m_keep : GoodIn lw_all (wsV RLaw 173 yX2_keep.cls yX2_keep (ws_ yX2_keep cX2_keep 3 (some .int))) := lw_V q2194 q2195 q2196 q115 q2197
theorem hy_l_m_keep : yX2_keep.cls ≠ "java/lang/invoke/MethodHandle" ∧ yX2_keep.cls ≠ "java/lang/invoke/VarHandle" ∧ (parseMethodDescriptor yX2_keep.desc).map (fun d => d.parameters.length) = some 2 := ⟨by decide, by decide, by decide +kernel⟩
theorem hL_x_row : GoodIn lw_all (wsV RLaw 174 yX0_row.cls yX0_row (wsW_ yX0_row cX0_row 5 (some .int) [((24 : Nat), (35 : Nat), (38 : Nat), (518 : Nat))])) := lw_VW q1422 q1423 q1424 q113 q1425
theorem hy_l_x_row : yX0_row.cls ≠ "java/lang/invoke/MethodHandle" ∧ yX0_row.cls ≠ "java/lang/invoke/VarHandle" ∧ (parseMethodDescriptor yX0_row.desc).map (fun d => d.parameters.length) = some 3 := ⟨by decide, by decide, by decide +kernel⟩
theorem hL_m_row : GoodIn lw_all (wsV RLaw 177 yX2_row.cls yX2_row (ws_ yX2_row cX2_row 5 (some .int))) := lw_V q2198 q2199 q2200 q115 q2201
theorem hy_l_m_row : yX2_row.cls ≠ "java/lang/invoke/MethodHandle" ∧ yX2_row.cls ≠ "java/lang/invoke/VarHandle" ∧ (parseMethodDescriptor yX2_row.desc).map (fun d => d.parameters.length) = some 3 := ⟨by decide, by decide, by decide +kernel⟩
theorem hL_x_put : GoodIn lw_all (wsV RLaw 180 yX0_put.cls yX0_put (wsW_ yX0_put cX0_put 6 (some .int) [((9 : Nat), (31 : Nat), (32 : Nat), (135 : Nat)), ((9 : Nat), (31 : Nat), (37 : Nat), (133 : Nat)), ((9 : Nat), (31 : Nat), (42 : Nat), (137 : Nat))])) := lw_VW q1496 q1497 q1498 q113 q1499
theorem hy_l_x_put : yX0_put.cls ≠ "java/lang/invoke/MethodHandle" ∧ yX0_put.cls ≠ "java/lang/invoke/VarHandle" ∧ (parseMethodDescriptor yX0_put.desc).map (fun d => d.parameters.length) = some 3 := ⟨by decide, by decide, by decide +kernel⟩
theorem hL_m_put : GoodIn lw_all (wsV RLaw 184 yX2_put.cls yX2_put (ws_ yX2_put cX2_put 5 (some .int))) := lw_V q2202 q2203 q2204 q115 q2205
theorem hy_l_m_put : yX2_put.cls ≠ "java/lang/invoke/MethodHandle" ∧ yX2_put.cls ≠ "java/lang/invoke/VarHandle" ∧ (parseMethodDescriptor yX2_put.desc).map (fun d => d.parameters.length) = some 3 := ⟨by decide, by decide, by decide +kernel⟩
theorem hL_x_element : GoodIn lw_all (wsV RLaw 185 yX0_element.cls yX0_element (wsW_ yX0_element cX0_element 4 (some .long) [((11 : Nat), (24 : Nat), (25 : Nat), (135 : Nat)), ((11 : Nat), (24 : Nat), (30 : Nat), (133 : Nat)), ((11 : Nat), (24 : Nat), (35 : Nat), (137 : Nat))])) := lw_VW q1519 q1520 q1521 q113 q1522
theorem hy_l_x_element : yX0_element.cls ≠ "java/lang/invoke/MethodHandle" ∧ yX0_element.cls ≠ "java/lang/invoke/VarHandle" ∧ (parseMethodDescriptor yX0_element.desc).map (fun d => d.parameters.length) = some 2 := ⟨by decide, by decide, by decide +kernel⟩
theorem hL_m_element : GoodIn lw_all (wsV RLaw 189 yX2_element.cls yX2_element (ws_ yX2_element cX2_element 3 (some .long))) := lw_V q2213 q2214 q2215 q115 q2216
theorem hy_l_m_element : yX2_element.cls ≠ "java/lang/invoke/MethodHandle" ∧ yX2_element.cls ≠ "java/lang/invoke/VarHandle" ∧ (parseMethodDescriptor yX2_element.desc).map (fun d => d.parameters.length) = some 2 := ⟨by decide, by decide, by decide +kernel⟩
theorem hL_x_shift : GoodIn lw_all (wsV RLaw 190 yX0_shift.cls yX0_shift (wsW_ yX0_shift cX0_shift 7 (some .int) [((37 : Nat), (63 : Nat), (66 : Nat), (133 : Nat)), ((37 : Nat), (63 : Nat), (71 : Nat), (137 : Nat))])) := lw_VW q1538 q1539 q1540 q113 q1541
theorem hy_l_x_shift : yX0_shift.cls ≠ "java/lang/invoke/MethodHandle" ∧ yX0_shift.cls ≠ "java/lang/invoke/VarHandle" ∧ (parseMethodDescriptor yX0_shift.desc).map (fun d => d.parameters.length) = some 5 := ⟨by decide, by decide, by decide +kernel⟩
theorem hL_m_shift : GoodIn lw_all (wsV RLaw 194 yX2_shift.cls yX2_shift (ws_ yX2_shift cX2_shift 7 (some .int))) := lw_V q2218 q2219 q2220 q115 q2221
theorem hy_l_m_shift : yX2_shift.cls ≠ "java/lang/invoke/MethodHandle" ∧ yX2_shift.cls ≠ "java/lang/invoke/VarHandle" ∧ (parseMethodDescriptor yX2_shift.desc).map (fun d => d.parameters.length) = some 5 := ⟨by decide, by decide, by decide +kernel⟩
theorem hL_x_taken : GoodIn lw_all (wsV RLaw 195 yX0_taken.cls yX0_taken (wsW_ yX0_taken cX0_taken 4 (some .int) [((19 : Nat), (46 : Nat), (47 : Nat), (135 : Nat)), ((19 : Nat), (46 : Nat), (51 : Nat), (133 : Nat))])) := lw_VW q1572 q1573 q1574 q113 q1575
theorem hy_l_x_taken : yX0_taken.cls ≠ "java/lang/invoke/MethodHandle" ∧ yX0_taken.cls ≠ "java/lang/invoke/VarHandle" ∧ (parseMethodDescriptor yX0_taken.desc).map (fun d => d.parameters.length) = some 2 := ⟨by decide, by decide, by decide +kernel⟩
theorem hL_m_taken : GoodIn lw_all (wsV RLaw 198 yX2_taken.cls yX2_taken (ws_ yX2_taken cX2_taken 5 (some .int))) := lw_V q2222 q2223 q2224 q115 q2225
theorem hy_l_m_taken : yX2_taken.cls ≠ "java/lang/invoke/MethodHandle" ∧ yX2_taken.cls ≠ "java/lang/invoke/VarHandle" ∧ (parseMethodDescriptor yX2_taken.desc).map (fun d => d.parameters.length) = some 2 := ⟨by decide, by decide, by decide +kernel⟩
theorem hL_x_count : GoodIn lw_all (wsV RLaw 199 yX0_count.cls yX0_count (ws_ yX0_count cX0_count 2 (some .int))) := lw_V q1627 q1628 q1629 q113 q1630
theorem hy_l_x_count : yX0_count.cls ≠ "java/lang/invoke/MethodHandle" ∧ yX0_count.cls ≠ "java/lang/invoke/VarHandle" ∧ (parseMethodDescriptor yX0_count.desc).map (fun d => d.parameters.length) = some 1 := ⟨by decide, by decide, by decide +kernel⟩
theorem hL_m_count : GoodIn lw_all (wsV RLaw 202 yX2_count.cls yX2_count (ws_ yX2_count cX2_count 2 (some .int))) := lw_V q2226 q2227 q2228 q115 q2229
theorem hy_l_m_count : yX2_count.cls ≠ "java/lang/invoke/MethodHandle" ∧ yX2_count.cls ≠ "java/lang/invoke/VarHandle" ∧ (parseMethodDescriptor yX2_count.desc).map (fun d => d.parameters.length) = some 1 := ⟨by decide, by decide, by decide +kernel⟩
section LCASES
variable {κ : jK} {Γ : jG} {σ : jS} {k n : Nat} {ret : Option FieldType} {G G' : Nat → Nat} {b Len i : Nat} {f : Nat → Int32} {X : XS} {M : MS} {N : Nat}
/-- the way on -/
def lwK (κ : jK) (Γ : jG) (σ : jS) (G G' : Nat → Nat) (b i k n : Nat) : Prop := ∀ (X' : XS) (M' : MS), R X' M' → J κ Γ σ 4 (PW κ G G' X' M') (k + 1000) (n + 64000) 1744 (lwL G G' b i) []
def lwFit (σ : jS) (k n : Nat) : Prop := 300 ≤ σ.1 ∧ k + 1000 ≤ σ.2.1 ∧ n + 64000 ≤ σ.2.2.1
theorem lc_0 (hκ : jX κ) (hN : 20000 ≤ N) (C : jC κ Γ cL_law 4 RLaw ret) (hs : lwS κ b Len f) (hR : R X M) (hi : i + 5 < Len) (hf : lwFit σ k n) (K : lwK κ Γ σ G G' b i k n) : J κ Γ σ 4 (PW κ G G' X M) k n 228 (lwL G G' b i) [] := by
  obtain ⟨f1, f2, f3⟩ := hf
  refine j_aload_n C (x := G 0) dL_law_228 rfl rfl ?_
  refine law_ld hκ.1 C hs 1 rfl (by omega) dL_law_229 dL_law_230 dL_law_231 dL_law_232 dL_law_233 ?_
  obtain ⟨v, M', e2, e1⟩ := law_post hR (f (i + 1))
  refine j_callV hκ.1.1 C (jM.frame (mt_x_post hκ G e1) (wM κ G' M)) hL_x_post hy_l_x_post rfl (r := 0) rfl (ci := ciX0) (q := (RX0, TX0, 49)) (hκ.cl rfl) rfl dL_law_234 ⟨by show _ + 1 ≤ σ.1; omega, by decide, by omega, by omega, Nat.le_of_ble_eq_true rfl⟩ rfl (fun u w' h => ?_)
  obtain ⟨w1, ⟨v', X', ⟨rfl, hR'⟩, rfl, rfl⟩, rfl⟩ := h
  refine j_aload_n C (x := G' 0) dL_law_237 rfl rfl ?_
  refine law_ld hκ.1 C hs 1 rfl (by omega) dL_law_238 dL_law_239 dL_law_240 dL_law_241 dL_law_242 ?_
  refine j_callV hκ.1.1 C (jM.frameR (mt_m_post hκ.1 G' e2) (wX κ G _)) hL_m_post hy_l_m_post rfl (r := 1) rfl (ci := ciM) (q := (RX2, TX2, 54)) (hκ.cl rfl) rfl dL_law_243 ⟨by show _ + 1 ≤ σ.1; omega, by decide, by omega, by omega, Nat.le_of_ble_eq_true rfl⟩ rfl (fun u w' h => ?_)
  obtain ⟨w2, ⟨rfl, rfl⟩, rfl⟩ := h
  refine j_icmp_eq C dL_law_246 (tgt := 1744) (by decide) (fun _ => ?_) (fun c => absurd rfl c)
  exact j_widen (by omega) (by omega) (K _ _ hR')
theorem lc_1 (hκ : jX κ) (hN : 20000 ≤ N) (C : jC κ Γ cL_law 4 RLaw ret) (hs : lwS κ b Len f) (hR : R X M) (hi : i + 5 < Len) (hf : lwFit σ k n) (K : lwK κ Γ σ G G' b i k n) : J κ Γ σ 4 (PW κ G G' X M) k n 251 (lwL G G' b i) [] := by
  obtain ⟨f1, f2, f3⟩ := hf
  refine j_aload_n C (x := G 0) dL_law_251 rfl rfl ?_
  refine law_ld hκ.1 C hs 1 rfl (by omega) dL_law_252 dL_law_253 dL_law_254 dL_law_255 dL_law_256 ?_
  refine law_ld hκ.1 C hs 2 rfl (by omega) dL_law_257 dL_law_258 dL_law_259 dL_law_260 dL_law_261 ?_
  refine law_ld hκ.1 C hs 3 rfl (by omega) dL_law_262 dL_law_263 dL_law_264 dL_law_265 dL_law_266 ?_
  obtain ⟨v, M', e2, e1⟩ := law_posts hR (N := N) (by omega) (f (i + 1)) (f (i + 2)) (f (i + 3))
  refine j_callVH hκ.1.1 C (jM.frame (mt_x_posts hκ N G e1) (wM κ G' M)) hL_x_posts hy_l_x_posts rfl (r := 0) rfl (ci := ciX0) (q := (RX0, TX0, 49)) (hκ.cl rfl) rfl dL_law_267 ⟨by show _ + 1 ≤ σ.1; omega, by decide, by omega, by omega, Nat.le_of_ble_eq_true rfl⟩ rfl (fun u w' h => ?_)
  obtain ⟨w1, ⟨v', X', ⟨rfl, hR'⟩, rfl, rfl⟩, rfl⟩ := h
  refine j_aload_n C (x := G' 0) dL_law_270 rfl rfl ?_
  refine law_ld hκ.1 C hs 1 rfl (by omega) dL_law_271 dL_law_272 dL_law_273 dL_law_274 dL_law_275 ?_
  refine law_ld hκ.1 C hs 2 rfl (by omega) dL_law_276 dL_law_277 dL_law_278 dL_law_279 dL_law_280 ?_
  refine law_ld hκ.1 C hs 3 rfl (by omega) dL_law_281 dL_law_282 dL_law_283 dL_law_284 dL_law_285 ?_
  refine j_callV hκ.1.1 C (jM.frameR (mt_m_posts hκ.1 N G' e2) (wX κ G _)) hL_m_posts hy_l_m_posts rfl (r := 1) rfl (ci := ciM) (q := (RX2, TX2, 54)) (hκ.cl rfl) rfl dL_law_286 ⟨by show _ + 1 ≤ σ.1; omega, by decide, by omega, by omega, Nat.le_of_ble_eq_true rfl⟩ rfl (fun u w' h => ?_)
  obtain ⟨w2, ⟨rfl, rfl⟩, rfl⟩ := h
  refine j_icmp_eq C dL_law_289 (tgt := 1744) (by decide) (fun _ => ?_) (fun c => absurd rfl c)
  exact j_widen (by omega) (by omega) (K _ _ hR')
theorem lc_2 (hκ : jX κ) (hN : 20000 ≤ N) (C : jC κ Γ cL_law 4 RLaw ret) (hs : lwS κ b Len f) (hR : R X M) (hi : i + 5 < Len) (hf : lwFit σ k n) (K : lwK κ Γ σ G G' b i k n) : J κ Γ σ 4 (PW κ G G' X M) k n 294 (lwL G G' b i) [] := by
  obtain ⟨f1, f2, f3⟩ := hf
  refine j_aload_n C (x := G 0) dL_law_294 rfl rfl ?_
  refine law_ld hκ.1 C hs 1 rfl (by omega) dL_law_295 dL_law_296 dL_law_297 dL_law_298 dL_law_299 ?_
  refine law_ld hκ.1 C hs 2 rfl (by omega) dL_law_300 dL_law_301 dL_law_302 dL_law_303 dL_law_304 ?_
  refine law_ld hκ.1 C hs 3 rfl (by omega) dL_law_305 dL_law_306 dL_law_307 dL_law_308 dL_law_309 ?_
  obtain ⟨v, M', e2, e1⟩ := law_mend hR (N := N) (by omega) (f (i + 1)) (f (i + 2)) (f (i + 3))
  refine j_callV hκ.1.1 C (jM.frame (mt_x_mend hκ N G e1) (wM κ G' M)) hL_x_mend hy_l_x_mend rfl (r := 0) rfl (ci := ciX0) (q := (RX0, TX0, 49)) (hκ.cl rfl) rfl dL_law_310 ⟨by show _ + 1 ≤ σ.1; omega, by decide, by omega, by omega, Nat.le_of_ble_eq_true rfl⟩ rfl (fun u w' h => ?_)
  obtain ⟨w1, ⟨v', X', ⟨rfl, hR'⟩, rfl, rfl⟩, rfl⟩ := h
  refine j_aload_n C (x := G' 0) dL_law_313 rfl rfl ?_
  refine law_ld hκ.1 C hs 1 rfl (by omega) dL_law_314 dL_law_315 dL_law_316 dL_law_317 dL_law_318 ?_
  refine law_ld hκ.1 C hs 2 rfl (by omega) dL_law_319 dL_law_320 dL_law_321 dL_law_322 dL_law_323 ?_
  refine law_ld hκ.1 C hs 3 rfl (by omega) dL_law_324 dL_law_325 dL_law_326 dL_law_327 dL_law_328 ?_
  refine j_callV hκ.1.1 C (jM.frameR (mt_m_mend hκ.1 N G' e2) (wX κ G _)) hL_m_mend hy_l_m_mend rfl (r := 1) rfl (ci := ciM) (q := (RX2, TX2, 54)) (hκ.cl rfl) rfl dL_law_329 ⟨by show _ + 1 ≤ σ.1; omega, by decide, by omega, by omega, Nat.le_of_ble_eq_true rfl⟩ rfl (fun u w' h => ?_)
  obtain ⟨w2, ⟨rfl, rfl⟩, rfl⟩ := h
  refine j_icmp_eq C dL_law_332 (tgt := 1744) (by decide) (fun _ => ?_) (fun c => absurd rfl c)
  exact j_widen (by omega) (by omega) (K _ _ hR')
theorem lc_3 (hκ : jX κ) (hN : 20000 ≤ N) (C : jC κ Γ cL_law 4 RLaw ret) (hs : lwS κ b Len f) (hR : R X M) (hi : i + 5 < Len) (hf : lwFit σ k n) (K : lwK κ Γ σ G G' b i k n) : J κ Γ σ 4 (PW κ G G' X M) k n 337 (lwL G G' b i) [] := by
  obtain ⟨f1, f2, f3⟩ := hf
  refine j_aload_n C (x := G 0) dL_law_337 rfl rfl ?_
  refine law_ld hκ.1 C hs 1 rfl (by omega) dL_law_338 dL_law_339 dL_law_340 dL_law_341 dL_law_342 ?_
  refine law_ld hκ.1 C hs 2 rfl (by omega) dL_law_343 dL_law_344 dL_law_345 dL_law_346 dL_law_347 ?_
  obtain ⟨v, e1, e2⟩ := law_of hR (f (i + 1)) (f (i + 2))
  have hR' := hR
  refine j_callV hκ.1.1 C (jM.frame (mt_x_of hκ G e1) (wM κ G' M)) hL_x_of hy_l_x_of rfl (r := 0) rfl (ci := ciX0) (q := (RX0, TX0, 49)) (hκ.cl rfl) rfl dL_law_348 ⟨by show _ + 1 ≤ σ.1; omega, by decide, by omega, by omega, Nat.le_of_ble_eq_true rfl⟩ rfl (fun u w' h => ?_)
  obtain ⟨w1, ⟨rfl, rfl⟩, rfl⟩ := h
  refine j_aload_n C (x := G' 0) dL_law_351 rfl rfl ?_
  refine law_ld hκ.1 C hs 1 rfl (by omega) dL_law_352 dL_law_353 dL_law_354 dL_law_355 dL_law_356 ?_
  refine law_ld hκ.1 C hs 2 rfl (by omega) dL_law_357 dL_law_358 dL_law_359 dL_law_360 dL_law_361 ?_
  refine j_callV hκ.1.1 C (jM.frameR (mt_m_of hκ.1 G' e2) (wX κ G _)) hL_m_of hy_l_m_of rfl (r := 1) rfl (ci := ciM) (q := (RX2, TX2, 54)) (hκ.cl rfl) rfl dL_law_362 ⟨by show _ + 1 ≤ σ.1; omega, by decide, by omega, by omega, Nat.le_of_ble_eq_true rfl⟩ rfl (fun u w' h => ?_)
  obtain ⟨w2, ⟨rfl, rfl⟩, rfl⟩ := h
  refine j_icmp_eq C dL_law_365 (tgt := 1744) (by decide) (fun _ => ?_) (fun c => absurd rfl c)
  exact j_widen (by omega) (by omega) (K _ _ hR')
theorem lc_4 (hκ : jX κ) (hN : 20000 ≤ N) (C : jC κ Γ cL_law 4 RLaw ret) (hs : lwS κ b Len f) (hR : R X M) (hi : i + 5 < Len) (hf : lwFit σ k n) (K : lwK κ Γ σ G G' b i k n) : J κ Γ σ 4 (PW κ G G' X M) k n 370 (lwL G G' b i) [] := by
  obtain ⟨f1, f2, f3⟩ := hf
  refine j_aload_n C (x := G 0) dL_law_370 rfl rfl ?_
  refine law_ld hκ.1 C hs 1 rfl (by omega) dL_law_371 dL_law_372 dL_law_373 dL_law_374 dL_law_375 ?_
  obtain ⟨v, X', M', e1, e2, hR'⟩ := law_feed hR (f (i + 1))
  refine j_callV hκ.1.1 C (jM.frame (mt_x_feed hκ G e1) (wM κ G' M)) hL_x_feed hy_l_x_feed rfl (r := 0) rfl (ci := ciX0) (q := (RX0, TX0, 49)) (hκ.cl rfl) rfl dL_law_376 ⟨by show _ + 1 ≤ σ.1; omega, by decide, by omega, by omega, Nat.le_of_ble_eq_true rfl⟩ rfl (fun u w' h => ?_)
  obtain ⟨w1, ⟨rfl, rfl⟩, rfl⟩ := h
  refine j_aload_n C (x := G' 0) dL_law_379 rfl rfl ?_
  refine law_ld hκ.1 C hs 1 rfl (by omega) dL_law_380 dL_law_381 dL_law_382 dL_law_383 dL_law_384 ?_
  refine j_callV hκ.1.1 C (jM.frameR (mt_m_feed hκ.1 G' e2) (wX κ G _)) hL_m_feed hy_l_m_feed rfl (r := 1) rfl (ci := ciM) (q := (RX2, TX2, 54)) (hκ.cl rfl) rfl dL_law_385 ⟨by show _ + 1 ≤ σ.1; omega, by decide, by omega, by omega, Nat.le_of_ble_eq_true rfl⟩ rfl (fun u w' h => ?_)
  obtain ⟨w2, ⟨rfl, rfl⟩, rfl⟩ := h
  refine j_icmp_eq C dL_law_388 (tgt := 1744) (by decide) (fun _ => ?_) (fun c => absurd rfl c)
  exact j_widen (by omega) (by omega) (K _ _ hR')
theorem lc_5 (hκ : jX κ) {sa : Nat → Nat} (hl : jLits κ sa) (hN : 20000 ≤ N) (C : jC κ Γ cL_law 4 RLaw ret) (hs : lwS κ b Len f) (hR : R X M) (hi : i + 5 < Len) (hf : lwFit σ k n) (K : lwK κ Γ σ G G' b i k n) : J κ Γ σ 4 (PW κ G G' X M) k n 393 (lwL G G' b i) [] := by
  obtain ⟨f1, f2, f3⟩ := hf
  refine j_aload_n C (x := G 0) dL_law_393 rfl rfl ?_
  obtain ⟨v, M', e2, e1⟩ := law_law hR (N := N) (by omega)
  refine j_callV hκ.1.1 C (jM.frame (mt_x_law hκ N G hl e1) (wM κ G' M)) hL_x_law hy_l_x_law rfl (r := 0) rfl (ci := ciX0) (q := (RX0, TX0, 49)) (hκ.cl rfl) rfl dL_law_394 ⟨by show _ + 1 ≤ σ.1; omega, by decide, by omega, by omega, Nat.le_of_ble_eq_true rfl⟩ rfl (fun u w' h => ?_)
  obtain ⟨w1, ⟨v', X', ⟨rfl, hR'⟩, rfl, rfl⟩, rfl⟩ := h
  refine j_aload_n C (x := G' 0) dL_law_397 rfl rfl ?_
  refine j_callV hκ.1.1 C (jM.frameR (mt_m_law hκ.1 N G' e2) (wX κ G _)) hL_m_law hy_l_m_law rfl (r := 1) rfl (ci := ciM) (q := (RX2, TX2, 54)) (hκ.cl rfl) rfl dL_law_398 ⟨by show _ + 1 ≤ σ.1; omega, by decide, by omega, by omega, Nat.le_of_ble_eq_true rfl⟩ rfl (fun u w' h => ?_)
  obtain ⟨w2, ⟨rfl, rfl⟩, rfl⟩ := h
  refine j_icmp_eq C dL_law_401 (tgt := 1744) (by decide) (fun _ => ?_) (fun c => absurd rfl c)
  exact j_widen (by omega) (by omega) (K _ _ hR')
theorem lc_6 (hκ : jX κ) (hN : 20000 ≤ N) (C : jC κ Γ cL_law 4 RLaw ret) (hs : lwS κ b Len f) (hR : R X M) (hi : i + 5 < Len) (hf : lwFit σ k n) (K : lwK κ Γ σ G G' b i k n) : J κ Γ σ 4 (PW κ G G' X M) k n 406 (lwL G G' b i) [] := by
  obtain ⟨f1, f2, f3⟩ := hf
  refine j_aload_n C (x := G 0) dL_law_406 rfl rfl ?_
  refine law_ld hκ.1 C hs 1 rfl (by omega) dL_law_407 dL_law_408 dL_law_409 dL_law_410 dL_law_411 ?_
  refine law_ld hκ.1 C hs 2 rfl (by omega) dL_law_412 dL_law_413 dL_law_414 dL_law_415 dL_law_416 ?_
  obtain ⟨v, X', M', e1, e2, hR'⟩ := law_round hR (N := N) (by omega) (f (i + 1)) (f (i + 2))
  refine j_callV hκ.1.1 C (jM.frame (mt_x_round hκ N G e1) (wM κ G' M)) hL_x_round hy_l_x_round rfl (r := 0) rfl (ci := ciX0) (q := (RX0, TX0, 49)) (hκ.cl rfl) rfl dL_law_417 ⟨by show _ + 1 ≤ σ.1; omega, by decide, by omega, by omega, Nat.le_of_ble_eq_true rfl⟩ rfl (fun u w' h => ?_)
  obtain ⟨w1, ⟨rfl, rfl⟩, rfl⟩ := h
  refine j_aload_n C (x := G' 0) dL_law_420 rfl rfl ?_
  refine law_ld hκ.1 C hs 1 rfl (by omega) dL_law_421 dL_law_422 dL_law_423 dL_law_424 dL_law_425 ?_
  refine law_ld hκ.1 C hs 2 rfl (by omega) dL_law_426 dL_law_427 dL_law_428 dL_law_429 dL_law_430 ?_
  refine j_callV hκ.1.1 C (jM.frameR (mt_m_round hκ.1 N G' e2) (wX κ G _)) hL_m_round hy_l_m_round rfl (r := 1) rfl (ci := ciM) (q := (RX2, TX2, 54)) (hκ.cl rfl) rfl dL_law_431 ⟨by show _ + 1 ≤ σ.1; omega, by decide, by omega, by omega, Nat.le_of_ble_eq_true rfl⟩ rfl (fun u w' h => ?_)
  obtain ⟨w2, ⟨rfl, rfl⟩, rfl⟩ := h
  refine j_icmp_eq C dL_law_434 (tgt := 1744) (by decide) (fun _ => ?_) (fun c => absurd rfl c)
  exact j_widen (by omega) (by omega) (K _ _ hR')
theorem lc_7 (hκ : jX κ) (hN : 20000 ≤ N) (C : jC κ Γ cL_law 4 RLaw ret) (hs : lwS κ b Len f) (hR : R X M) (hi : i + 5 < Len) (hf : lwFit σ k n) (K : lwK κ Γ σ G G' b i k n) : J κ Γ σ 4 (PW κ G G' X M) k n 439 (lwL G G' b i) [] := by
  obtain ⟨f1, f2, f3⟩ := hf
  refine j_aload_n C (x := G 0) dL_law_439 rfl rfl ?_
  refine law_ld hκ.1 C hs 1 rfl (by omega) dL_law_440 dL_law_441 dL_law_442 dL_law_443 dL_law_444 ?_
  refine law_ld hκ.1 C hs 2 rfl (by omega) dL_law_445 dL_law_446 dL_law_447 dL_law_448 dL_law_449 ?_
  obtain ⟨v, X', M', e1, e2, hR'⟩ := law_first hR (N := N) (by omega) (f (i + 1)) (f (i + 2))
  refine j_callV hκ.1.1 C (jM.frame (mt_x_first hκ N G e1) (wM κ G' M)) hL_x_first hy_l_x_first rfl (r := 0) rfl (ci := ciX0) (q := (RX0, TX0, 49)) (hκ.cl rfl) rfl dL_law_450 ⟨by show _ + 1 ≤ σ.1; omega, by decide, by omega, by omega, Nat.le_of_ble_eq_true rfl⟩ rfl (fun u w' h => ?_)
  obtain ⟨w1, ⟨rfl, rfl⟩, rfl⟩ := h
  refine j_aload_n C (x := G' 0) dL_law_453 rfl rfl ?_
  refine law_ld hκ.1 C hs 1 rfl (by omega) dL_law_454 dL_law_455 dL_law_456 dL_law_457 dL_law_458 ?_
  refine law_ld hκ.1 C hs 2 rfl (by omega) dL_law_459 dL_law_460 dL_law_461 dL_law_462 dL_law_463 ?_
  refine j_callV hκ.1.1 C (jM.frameR (mt_m_first hκ.1 N G' e2) (wX κ G _)) hL_m_first hy_l_m_first rfl (r := 1) rfl (ci := ciM) (q := (RX2, TX2, 54)) (hκ.cl rfl) rfl dL_law_464 ⟨by show _ + 1 ≤ σ.1; omega, by decide, by omega, by omega, Nat.le_of_ble_eq_true rfl⟩ rfl (fun u w' h => ?_)
  obtain ⟨w2, ⟨rfl, rfl⟩, rfl⟩ := h
  refine j_icmp_eq C dL_law_467 (tgt := 1744) (by decide) (fun _ => ?_) (fun c => absurd rfl c)
  exact j_widen (by omega) (by omega) (K _ _ hR')
theorem lc_8 (hκ : jX κ) (hN : 20000 ≤ N) (C : jC κ Γ cL_law 4 RLaw ret) (hs : lwS κ b Len f) (hR : R X M) (hi : i + 5 < Len) (hf : lwFit σ k n) (K : lwK κ Γ σ G G' b i k n) : J κ Γ σ 4 (PW κ G G' X M) k n 472 (lwL G G' b i) [] := by
  obtain ⟨f1, f2, f3⟩ := hf
  refine j_aload_n C (x := G 0) dL_law_472 rfl rfl ?_
  refine law_ld hκ.1 C hs 1 rfl (by omega) dL_law_473 dL_law_474 dL_law_475 dL_law_476 dL_law_477 ?_
  refine law_ld hκ.1 C hs 2 rfl (by omega) dL_law_478 dL_law_479 dL_law_480 dL_law_481 dL_law_482 ?_
  refine law_ld hκ.1 C hs 3 rfl (by omega) dL_law_483 dL_law_484 dL_law_485 dL_law_486 dL_law_487 ?_
  obtain ⟨v, X', M', e1, e2, hR'⟩ := law_by hR (N := N) (by omega) (f (i + 1)) (f (i + 2)) (f (i + 3))
  refine j_callV hκ.1.1 C (jM.frame (mt_x_by hκ N G e1) (wM κ G' M)) hL_x_by hy_l_x_by rfl (r := 0) rfl (ci := ciX0) (q := (RX0, TX0, 49)) (hκ.cl rfl) rfl dL_law_488 ⟨by show _ + 1 ≤ σ.1; omega, by decide, by omega, by omega, Nat.le_of_ble_eq_true rfl⟩ rfl (fun u w' h => ?_)
  obtain ⟨w1, ⟨rfl, rfl⟩, rfl⟩ := h
  refine j_aload_n C (x := G' 0) dL_law_491 rfl rfl ?_
  refine law_ld hκ.1 C hs 1 rfl (by omega) dL_law_492 dL_law_493 dL_law_494 dL_law_495 dL_law_496 ?_
  refine law_ld hκ.1 C hs 2 rfl (by omega) dL_law_497 dL_law_498 dL_law_499 dL_law_500 dL_law_501 ?_
  refine law_ld hκ.1 C hs 3 rfl (by omega) dL_law_502 dL_law_503 dL_law_504 dL_law_505 dL_law_506 ?_
  refine j_callV hκ.1.1 C (jM.frameR (mt_m_by hκ.1 N G' e2) (wX κ G _)) hL_m_by hy_l_m_by rfl (r := 1) rfl (ci := ciM) (q := (RX2, TX2, 54)) (hκ.cl rfl) rfl dL_law_507 ⟨by show _ + 1 ≤ σ.1; omega, by decide, by omega, by omega, Nat.le_of_ble_eq_true rfl⟩ rfl (fun u w' h => ?_)
  obtain ⟨w2, ⟨rfl, rfl⟩, rfl⟩ := h
  refine j_icmp_eq C dL_law_510 (tgt := 1744) (by decide) (fun _ => ?_) (fun c => absurd rfl c)
  exact j_widen (by omega) (by omega) (K _ _ hR')
theorem lc_9 (hκ : jX κ) (hN : 20000 ≤ N) (C : jC κ Γ cL_law 4 RLaw ret) (hs : lwS κ b Len f) (hR : R X M) (hi : i + 5 < Len) (hf : lwFit σ k n) (K : lwK κ Γ σ G G' b i k n) : J κ Γ σ 4 (PW κ G G' X M) k n 515 (lwL G G' b i) [] := by
  obtain ⟨f1, f2, f3⟩ := hf
  refine j_aload_n C (x := G 0) dL_law_515 rfl rfl ?_
  refine law_ld hκ.1 C hs 1 rfl (by omega) dL_law_516 dL_law_517 dL_law_518 dL_law_519 dL_law_520 ?_
  refine law_ld hκ.1 C hs 2 rfl (by omega) dL_law_521 dL_law_522 dL_law_523 dL_law_524 dL_law_525 ?_
  refine law_ld hκ.1 C hs 3 rfl (by omega) dL_law_526 dL_law_527 dL_law_528 dL_law_529 dL_law_530 ?_
  refine law_ld hκ.1 C hs 4 rfl (by omega) dL_law_531 dL_law_532 dL_law_533 dL_law_534 dL_law_535 ?_
  obtain ⟨v, X', M', e1, e2, hR'⟩ := law_unseen hR (N := N) (by omega) (f (i + 1)) (f (i + 2)) (f (i + 3)) (f (i + 4))
  refine j_callV hκ.1.1 C (jM.frame (mt_x_unseen hκ N G e1) (wM κ G' M)) hL_x_unseen hy_l_x_unseen rfl (r := 0) rfl (ci := ciX0) (q := (RX0, TX0, 49)) (hκ.cl rfl) rfl dL_law_536 ⟨by show _ + 1 ≤ σ.1; omega, by decide, by omega, by omega, Nat.le_of_ble_eq_true rfl⟩ rfl (fun u w' h => ?_)
  obtain ⟨w1, ⟨rfl, rfl⟩, rfl⟩ := h
  refine j_aload_n C (x := G' 0) dL_law_539 rfl rfl ?_
  refine law_ld hκ.1 C hs 1 rfl (by omega) dL_law_540 dL_law_541 dL_law_542 dL_law_543 dL_law_544 ?_
  refine law_ld hκ.1 C hs 2 rfl (by omega) dL_law_545 dL_law_546 dL_law_547 dL_law_548 dL_law_549 ?_
  refine law_ld hκ.1 C hs 3 rfl (by omega) dL_law_550 dL_law_551 dL_law_552 dL_law_553 dL_law_554 ?_
  refine law_ld hκ.1 C hs 4 rfl (by omega) dL_law_555 dL_law_556 dL_law_557 dL_law_558 dL_law_559 ?_
  refine j_callV hκ.1.1 C (jM.frameR (mt_m_unseen hκ.1 N G' e2) (wX κ G _)) hL_m_unseen hy_l_m_unseen rfl (r := 1) rfl (ci := ciM) (q := (RX2, TX2, 54)) (hκ.cl rfl) rfl dL_law_560 ⟨by show _ + 1 ≤ σ.1; omega, by decide, by omega, by omega, Nat.le_of_ble_eq_true rfl⟩ rfl (fun u w' h => ?_)
  obtain ⟨w2, ⟨rfl, rfl⟩, rfl⟩ := h
  refine j_icmp_eq C dL_law_563 (tgt := 1744) (by decide) (fun _ => ?_) (fun c => absurd rfl c)
  exact j_widen (by omega) (by omega) (K _ _ hR')
theorem lc_10 (hκ : jX κ) (hN : 20000 ≤ N) (C : jC κ Γ cL_law 4 RLaw ret) (hs : lwS κ b Len f) (hR : R X M) (hi : i + 5 < Len) (hf : lwFit σ k n) (K : lwK κ Γ σ G G' b i k n) : J κ Γ σ 4 (PW κ G G' X M) k n 568 (lwL G G' b i) [] := by
  obtain ⟨f1, f2, f3⟩ := hf
  refine j_aload_n C (x := G 0) dL_law_568 rfl rfl ?_
  refine law_ld hκ.1 C hs 1 rfl (by omega) dL_law_569 dL_law_570 dL_law_571 dL_law_572 dL_law_573 ?_
  refine law_ld hκ.1 C hs 2 rfl (by omega) dL_law_574 dL_law_575 dL_law_576 dL_law_577 dL_law_578 ?_
  refine law_ld hκ.1 C hs 3 rfl (by omega) dL_law_579 dL_law_580 dL_law_581 dL_law_582 dL_law_583 ?_
  refine law_ld hκ.1 C hs 4 rfl (by omega) dL_law_584 dL_law_585 dL_law_586 dL_law_587 dL_law_588 ?_
  obtain ⟨v, X', M', e1, e2, hR'⟩ := law_lost hR (N := N) (by omega) (f (i + 1)) (f (i + 2)) (f (i + 3)) (f (i + 4))
  refine j_callV hκ.1.1 C (jM.frame (mt_x_lost hκ N G e1) (wM κ G' M)) hL_x_lost hy_l_x_lost rfl (r := 0) rfl (ci := ciX0) (q := (RX0, TX0, 49)) (hκ.cl rfl) rfl dL_law_589 ⟨by show _ + 1 ≤ σ.1; omega, by decide, by omega, by omega, Nat.le_of_ble_eq_true rfl⟩ rfl (fun u w' h => ?_)
  obtain ⟨w1, ⟨rfl, rfl⟩, rfl⟩ := h
  refine j_aload_n C (x := G' 0) dL_law_592 rfl rfl ?_
  refine law_ld hκ.1 C hs 1 rfl (by omega) dL_law_593 dL_law_594 dL_law_595 dL_law_596 dL_law_597 ?_
  refine law_ld hκ.1 C hs 2 rfl (by omega) dL_law_598 dL_law_599 dL_law_600 dL_law_601 dL_law_602 ?_
  refine law_ld hκ.1 C hs 3 rfl (by omega) dL_law_603 dL_law_604 dL_law_605 dL_law_606 dL_law_607 ?_
  refine law_ld hκ.1 C hs 4 rfl (by omega) dL_law_608 dL_law_609 dL_law_610 dL_law_611 dL_law_612 ?_
  refine j_callV hκ.1.1 C (jM.frameR (mt_m_lost hκ.1 N G' e2) (wX κ G _)) hL_m_lost hy_l_m_lost rfl (r := 1) rfl (ci := ciM) (q := (RX2, TX2, 54)) (hκ.cl rfl) rfl dL_law_613 ⟨by show _ + 1 ≤ σ.1; omega, by decide, by omega, by omega, Nat.le_of_ble_eq_true rfl⟩ rfl (fun u w' h => ?_)
  obtain ⟨w2, ⟨rfl, rfl⟩, rfl⟩ := h
  refine j_icmp_eq C dL_law_616 (tgt := 1744) (by decide) (fun _ => ?_) (fun c => absurd rfl c)
  exact j_widen (by omega) (by omega) (K _ _ hR')
theorem lc_11 (hκ : jX κ) (hN : 20000 ≤ N) (C : jC κ Γ cL_law 4 RLaw ret) (hs : lwS κ b Len f) (hR : R X M) (hi : i + 5 < Len) (hf : lwFit σ k n) (K : lwK κ Γ σ G G' b i k n) : J κ Γ σ 4 (PW κ G G' X M) k n 621 (lwL G G' b i) [] := by
  obtain ⟨f1, f2, f3⟩ := hf
  refine j_aload_n C (x := G 0) dL_law_621 rfl rfl ?_
  refine law_ld hκ.1 C hs 1 rfl (by omega) dL_law_622 dL_law_623 dL_law_624 dL_law_625 dL_law_626 ?_
  refine law_ld hκ.1 C hs 2 rfl (by omega) dL_law_627 dL_law_628 dL_law_629 dL_law_630 dL_law_631 ?_
  obtain ⟨v, X', M', e1, e2, hR'⟩ := law_red hR (N := N) (by omega) (f (i + 1)) (f (i + 2))
  refine j_callV hκ.1.1 C (jM.frame (mt_x_red hκ N G e1) (wM κ G' M)) hL_x_red hy_l_x_red rfl (r := 0) rfl (ci := ciX0) (q := (RX0, TX0, 49)) (hκ.cl rfl) rfl dL_law_632 ⟨by show _ + 1 ≤ σ.1; omega, by decide, by omega, by omega, Nat.le_of_ble_eq_true rfl⟩ rfl (fun u w' h => ?_)
  obtain ⟨w1, ⟨rfl, rfl⟩, rfl⟩ := h
  refine j_aload_n C (x := G' 0) dL_law_635 rfl rfl ?_
  refine law_ld hκ.1 C hs 1 rfl (by omega) dL_law_636 dL_law_637 dL_law_638 dL_law_639 dL_law_640 ?_
  refine law_ld hκ.1 C hs 2 rfl (by omega) dL_law_641 dL_law_642 dL_law_643 dL_law_644 dL_law_645 ?_
  refine j_callV hκ.1.1 C (jM.frameR (mt_m_red hκ.1 N G' e2) (wX κ G _)) hL_m_red hy_l_m_red rfl (r := 1) rfl (ci := ciM) (q := (RX2, TX2, 54)) (hκ.cl rfl) rfl dL_law_646 ⟨by show _ + 1 ≤ σ.1; omega, by decide, by omega, by omega, Nat.le_of_ble_eq_true rfl⟩ rfl (fun u w' h => ?_)
  obtain ⟨w2, ⟨rfl, rfl⟩, rfl⟩ := h
  refine j_icmp_eq C dL_law_649 (tgt := 1744) (by decide) (fun _ => ?_) (fun c => absurd rfl c)
  exact j_widen (by omega) (by omega) (K _ _ hR')
theorem lc_12 (hκ : jX κ) (hN : 20000 ≤ N) (C : jC κ Γ cL_law 4 RLaw ret) (hs : lwS κ b Len f) (hR : R X M) (hi : i + 5 < Len) (hf : lwFit σ k n) (K : lwK κ Γ σ G G' b i k n) : J κ Γ σ 4 (PW κ G G' X M) k n 654 (lwL G G' b i) [] := by
  obtain ⟨f1, f2, f3⟩ := hf
  refine j_aload_n C (x := G 0) dL_law_654 rfl rfl ?_
  refine law_ld hκ.1 C hs 1 rfl (by omega) dL_law_655 dL_law_656 dL_law_657 dL_law_658 dL_law_659 ?_
  refine law_ld hκ.1 C hs 2 rfl (by omega) dL_law_660 dL_law_661 dL_law_662 dL_law_663 dL_law_664 ?_
  obtain ⟨v, X', M', e1, e2, hR'⟩ := law_gap hR (N := N) (by omega) (f (i + 1)) (f (i + 2))
  refine j_callV hκ.1.1 C (jM.frame (mt_x_gap hκ N G e1) (wM κ G' M)) hL_x_gap hy_l_x_gap rfl (r := 0) rfl (ci := ciX0) (q := (RX0, TX0, 49)) (hκ.cl rfl) rfl dL_law_665 ⟨by show _ + 1 ≤ σ.1; omega, by decide, by omega, by omega, Nat.le_of_ble_eq_true rfl⟩ rfl (fun u w' h => ?_)
  obtain ⟨w1, ⟨rfl, rfl⟩, rfl⟩ := h
  refine j_aload_n C (x := G' 0) dL_law_668 rfl rfl ?_
  refine law_ld hκ.1 C hs 1 rfl (by omega) dL_law_669 dL_law_670 dL_law_671 dL_law_672 dL_law_673 ?_
  refine law_ld hκ.1 C hs 2 rfl (by omega) dL_law_674 dL_law_675 dL_law_676 dL_law_677 dL_law_678 ?_
  refine j_callV hκ.1.1 C (jM.frameR (mt_m_gap hκ.1 N G' e2) (wX κ G _)) hL_m_gap hy_l_m_gap rfl (r := 1) rfl (ci := ciM) (q := (RX2, TX2, 54)) (hκ.cl rfl) rfl dL_law_679 ⟨by show _ + 1 ≤ σ.1; omega, by decide, by omega, by omega, Nat.le_of_ble_eq_true rfl⟩ rfl (fun u w' h => ?_)
  obtain ⟨w2, ⟨rfl, rfl⟩, rfl⟩ := h
  refine j_icmp_eq C dL_law_682 (tgt := 1744) (by decide) (fun _ => ?_) (fun c => absurd rfl c)
  exact j_widen (by omega) (by omega) (K _ _ hR')
theorem lc_13 (hκ : jX κ) (hN : 20000 ≤ N) (C : jC κ Γ cL_law 4 RLaw ret) (hs : lwS κ b Len f) (hR : R X M) (hi : i + 5 < Len) (hf : lwFit σ k n) (K : lwK κ Γ σ G G' b i k n) : J κ Γ σ 4 (PW κ G G' X M) k n 687 (lwL G G' b i) [] := by
  obtain ⟨f1, f2, f3⟩ := hf
  refine j_aload_n C (x := G 0) dL_law_687 rfl rfl ?_
  refine law_ld hκ.1 C hs 1 rfl (by omega) dL_law_688 dL_law_689 dL_law_690 dL_law_691 dL_law_692 ?_
  obtain ⟨v, X', M', e1, e2, hR'⟩ := law_late hR (N := N) (by omega) (f (i + 1))
  refine j_callV hκ.1.1 C (jM.frame (mt_x_late hκ N G e1) (wM κ G' M)) hL_x_late hy_l_x_late rfl (r := 0) rfl (ci := ciX0) (q := (RX0, TX0, 49)) (hκ.cl rfl) rfl dL_law_693 ⟨by show _ + 1 ≤ σ.1; omega, by decide, by omega, by omega, Nat.le_of_ble_eq_true rfl⟩ rfl (fun u w' h => ?_)
  obtain ⟨w1, ⟨rfl, rfl⟩, rfl⟩ := h
  refine j_aload_n C (x := G' 0) dL_law_696 rfl rfl ?_
  refine law_ld hκ.1 C hs 1 rfl (by omega) dL_law_697 dL_law_698 dL_law_699 dL_law_700 dL_law_701 ?_
  refine j_callV hκ.1.1 C (jM.frameR (mt_m_late hκ.1 N G' e2) (wX κ G _)) hL_m_late hy_l_m_late rfl (r := 1) rfl (ci := ciM) (q := (RX2, TX2, 54)) (hκ.cl rfl) rfl dL_law_702 ⟨by show _ + 1 ≤ σ.1; omega, by decide, by omega, by omega, Nat.le_of_ble_eq_true rfl⟩ rfl (fun u w' h => ?_)
  obtain ⟨w2, ⟨rfl, rfl⟩, rfl⟩ := h
  refine j_icmp_eq C dL_law_705 (tgt := 1744) (by decide) (fun _ => ?_) (fun c => absurd rfl c)
  exact j_widen (by omega) (by omega) (K _ _ hR')
theorem lc_14 (hκ : jX κ) (hN : 20000 ≤ N) (C : jC κ Γ cL_law 4 RLaw ret) (hs : lwS κ b Len f) (hR : R X M) (hi : i + 5 < Len) (hf : lwFit σ k n) (K : lwK κ Γ σ G G' b i k n) : J κ Γ σ 4 (PW κ G G' X M) k n 710 (lwL G G' b i) [] := by
  obtain ⟨f1, f2, f3⟩ := hf
  refine j_aload_n C (x := G 0) dL_law_710 rfl rfl ?_
  refine law_ld hκ.1 C hs 1 rfl (by omega) dL_law_711 dL_law_712 dL_law_713 dL_law_714 dL_law_715 ?_
  refine law_ld hκ.1 C hs 2 rfl (by omega) dL_law_716 dL_law_717 dL_law_718 dL_law_719 dL_law_720 ?_
  obtain ⟨v, X', M', e1, e2, hR'⟩ := law_shortest hR (N := N) (by omega) (f (i + 1)) (f (i + 2))
  refine j_callV hκ.1.1 C (jM.frame (mt_x_shortest hκ N G e1) (wM κ G' M)) hL_x_shortest hy_l_x_shortest rfl (r := 0) rfl (ci := ciX0) (q := (RX0, TX0, 49)) (hκ.cl rfl) rfl dL_law_721 ⟨by show _ + 1 ≤ σ.1; omega, by decide, by omega, by omega, Nat.le_of_ble_eq_true rfl⟩ rfl (fun u w' h => ?_)
  obtain ⟨w1, ⟨rfl, rfl⟩, rfl⟩ := h
  refine j_aload_n C (x := G' 0) dL_law_724 rfl rfl ?_
  refine law_ld hκ.1 C hs 1 rfl (by omega) dL_law_725 dL_law_726 dL_law_727 dL_law_728 dL_law_729 ?_
  refine law_ld hκ.1 C hs 2 rfl (by omega) dL_law_730 dL_law_731 dL_law_732 dL_law_733 dL_law_734 ?_
  refine j_callV hκ.1.1 C (jM.frameR (mt_m_shortest hκ.1 N G' e2) (wX κ G _)) hL_m_shortest hy_l_m_shortest rfl (r := 1) rfl (ci := ciM) (q := (RX2, TX2, 54)) (hκ.cl rfl) rfl dL_law_735 ⟨by show _ + 1 ≤ σ.1; omega, by decide, by omega, by omega, Nat.le_of_ble_eq_true rfl⟩ rfl (fun u w' h => ?_)
  obtain ⟨w2, ⟨rfl, rfl⟩, rfl⟩ := h
  refine j_icmp_eq C dL_law_738 (tgt := 1744) (by decide) (fun _ => ?_) (fun c => absurd rfl c)
  exact j_widen (by omega) (by omega) (K _ _ hR')
theorem lc_15 (hκ : jX κ) (hN : 20000 ≤ N) (C : jC κ Γ cL_law 4 RLaw ret) (hs : lwS κ b Len f) (hR : R X M) (hi : i + 5 < Len) (hf : lwFit σ k n) (K : lwK κ Γ σ G G' b i k n) : J κ Γ σ 4 (PW κ G G' X M) k n 743 (lwL G G' b i) [] := by
  obtain ⟨f1, f2, f3⟩ := hf
  refine j_aload_n C (x := G 0) dL_law_743 rfl rfl ?_
  refine law_ld hκ.1 C hs 1 rfl (by omega) dL_law_744 dL_law_745 dL_law_746 dL_law_747 dL_law_748 ?_
  refine law_ld hκ.1 C hs 2 rfl (by omega) dL_law_749 dL_law_750 dL_law_751 dL_law_752 dL_law_753 ?_
  obtain ⟨v, X', M', e1, e2, hR'⟩ := law_leftOut hR (N := N) (by omega) (f (i + 1)) (f (i + 2))
  refine j_callV hκ.1.1 C (jM.frame (mt_x_leftOut hκ N G e1) (wM κ G' M)) hL_x_leftOut hy_l_x_leftOut rfl (r := 0) rfl (ci := ciX0) (q := (RX0, TX0, 49)) (hκ.cl rfl) rfl dL_law_754 ⟨by show _ + 1 ≤ σ.1; omega, by decide, by omega, by omega, Nat.le_of_ble_eq_true rfl⟩ rfl (fun u w' h => ?_)
  obtain ⟨w1, ⟨rfl, rfl⟩, rfl⟩ := h
  refine j_aload_n C (x := G' 0) dL_law_757 rfl rfl ?_
  refine law_ld hκ.1 C hs 1 rfl (by omega) dL_law_758 dL_law_759 dL_law_760 dL_law_761 dL_law_762 ?_
  refine law_ld hκ.1 C hs 2 rfl (by omega) dL_law_763 dL_law_764 dL_law_765 dL_law_766 dL_law_767 ?_
  refine j_callV hκ.1.1 C (jM.frameR (mt_m_leftOut hκ.1 N G' e2) (wX κ G _)) hL_m_leftOut hy_l_m_leftOut rfl (r := 1) rfl (ci := ciM) (q := (RX2, TX2, 54)) (hκ.cl rfl) rfl dL_law_768 ⟨by show _ + 1 ≤ σ.1; omega, by decide, by omega, by omega, Nat.le_of_ble_eq_true rfl⟩ rfl (fun u w' h => ?_)
  obtain ⟨w2, ⟨rfl, rfl⟩, rfl⟩ := h
  refine j_icmp_eq C dL_law_771 (tgt := 1744) (by decide) (fun _ => ?_) (fun c => absurd rfl c)
  exact j_widen (by omega) (by omega) (K _ _ hR')
theorem lc_16 (hκ : jX κ) (hN : 20000 ≤ N) (C : jC κ Γ cL_law 4 RLaw ret) (hs : lwS κ b Len f) (hR : R X M) (hi : i + 5 < Len) (hf : lwFit σ k n) (K : lwK κ Γ σ G G' b i k n) : J κ Γ σ 4 (PW κ G G' X M) k n 776 (lwL G G' b i) [] := by
  obtain ⟨f1, f2, f3⟩ := hf
  refine j_aload_n C (x := G 0) dL_law_776 rfl rfl ?_
  refine law_ld hκ.1 C hs 1 rfl (by omega) dL_law_777 dL_law_778 dL_law_779 dL_law_780 dL_law_781 ?_
  refine law_ld hκ.1 C hs 2 rfl (by omega) dL_law_782 dL_law_783 dL_law_784 dL_law_785 dL_law_786 ?_
  refine law_ld hκ.1 C hs 3 rfl (by omega) dL_law_787 dL_law_788 dL_law_789 dL_law_790 dL_law_791 ?_
  refine law_ld hκ.1 C hs 4 rfl (by omega) dL_law_792 dL_law_793 dL_law_794 dL_law_795 dL_law_796 ?_
  obtain ⟨v, X', M', e1, e2, hR'⟩ := law_thief hR (N := N) (by omega) (f (i + 1)) (f (i + 2)) (f (i + 3)) (f (i + 4))
  refine j_callV hκ.1.1 C (jM.frame (mt_x_thief hκ N G e1) (wM κ G' M)) hL_x_thief hy_l_x_thief rfl (r := 0) rfl (ci := ciX0) (q := (RX0, TX0, 49)) (hκ.cl rfl) rfl dL_law_797 ⟨by show _ + 1 ≤ σ.1; omega, by decide, by omega, by omega, Nat.le_of_ble_eq_true rfl⟩ rfl (fun u w' h => ?_)
  obtain ⟨w1, ⟨rfl, rfl⟩, rfl⟩ := h
  refine j_aload_n C (x := G' 0) dL_law_800 rfl rfl ?_
  refine law_ld hκ.1 C hs 1 rfl (by omega) dL_law_801 dL_law_802 dL_law_803 dL_law_804 dL_law_805 ?_
  refine law_ld hκ.1 C hs 2 rfl (by omega) dL_law_806 dL_law_807 dL_law_808 dL_law_809 dL_law_810 ?_
  refine law_ld hκ.1 C hs 3 rfl (by omega) dL_law_811 dL_law_812 dL_law_813 dL_law_814 dL_law_815 ?_
  refine law_ld hκ.1 C hs 4 rfl (by omega) dL_law_816 dL_law_817 dL_law_818 dL_law_819 dL_law_820 ?_
  refine j_callV hκ.1.1 C (jM.frameR (mt_m_thief hκ.1 N G' e2) (wX κ G _)) hL_m_thief hy_l_m_thief rfl (r := 1) rfl (ci := ciM) (q := (RX2, TX2, 54)) (hκ.cl rfl) rfl dL_law_821 ⟨by show _ + 1 ≤ σ.1; omega, by decide, by omega, by omega, Nat.le_of_ble_eq_true rfl⟩ rfl (fun u w' h => ?_)
  obtain ⟨w2, ⟨rfl, rfl⟩, rfl⟩ := h
  refine j_icmp_eq C dL_law_824 (tgt := 1744) (by decide) (fun _ => ?_) (fun c => absurd rfl c)
  exact j_widen (by omega) (by omega) (K _ _ hR')
theorem lc_17 (hκ : jX κ) (hN : 20000 ≤ N) (C : jC κ Γ cL_law 4 RLaw ret) (hs : lwS κ b Len f) (hR : R X M) (hi : i + 5 < Len) (hf : lwFit σ k n) (K : lwK κ Γ σ G G' b i k n) : J κ Γ σ 4 (PW κ G G' X M) k n 829 (lwL G G' b i) [] := by
  obtain ⟨f1, f2, f3⟩ := hf
  refine j_aload_n C (x := G 0) dL_law_829 rfl rfl ?_
  refine law_ld hκ.1 C hs 1 rfl (by omega) dL_law_830 dL_law_831 dL_law_832 dL_law_833 dL_law_834 ?_
  refine law_ld hκ.1 C hs 2 rfl (by omega) dL_law_835 dL_law_836 dL_law_837 dL_law_838 dL_law_839 ?_
  obtain ⟨v, X', M', e1, e2, hR'⟩ := law_safe hR (N := N) (by omega) (f (i + 1)) (f (i + 2))
  refine j_callV hκ.1.1 C (jM.frame (mt_x_safe hκ N G e1) (wM κ G' M)) hL_x_safe hy_l_x_safe rfl (r := 0) rfl (ci := ciX0) (q := (RX0, TX0, 49)) (hκ.cl rfl) rfl dL_law_840 ⟨by show _ + 1 ≤ σ.1; omega, by decide, by omega, by omega, Nat.le_of_ble_eq_true rfl⟩ rfl (fun u w' h => ?_)
  obtain ⟨w1, ⟨rfl, rfl⟩, rfl⟩ := h
  refine j_aload_n C (x := G' 0) dL_law_843 rfl rfl ?_
  refine law_ld hκ.1 C hs 1 rfl (by omega) dL_law_844 dL_law_845 dL_law_846 dL_law_847 dL_law_848 ?_
  refine law_ld hκ.1 C hs 2 rfl (by omega) dL_law_849 dL_law_850 dL_law_851 dL_law_852 dL_law_853 ?_
  refine j_callV hκ.1.1 C (jM.frameR (mt_m_safe hκ.1 N G' e2) (wX κ G _)) hL_m_safe hy_l_m_safe rfl (r := 1) rfl (ci := ciM) (q := (RX2, TX2, 54)) (hκ.cl rfl) rfl dL_law_854 ⟨by show _ + 1 ≤ σ.1; omega, by decide, by omega, by omega, Nat.le_of_ble_eq_true rfl⟩ rfl (fun u w' h => ?_)
  obtain ⟨w2, ⟨rfl, rfl⟩, rfl⟩ := h
  refine j_icmp_eq C dL_law_857 (tgt := 1744) (by decide) (fun _ => ?_) (fun c => absurd rfl c)
  exact j_widen (by omega) (by omega) (K _ _ hR')
theorem lc_18 (hκ : jX κ) (hN : 20000 ≤ N) (C : jC κ Γ cL_law 4 RLaw ret) (hs : lwS κ b Len f) (hR : R X M) (hi : i + 5 < Len) (hf : lwFit σ k n) (K : lwK κ Γ σ G G' b i k n) : J κ Γ σ 4 (PW κ G G' X M) k n 862 (lwL G G' b i) [] := by
  obtain ⟨f1, f2, f3⟩ := hf
  refine j_aload_n C (x := G 0) dL_law_862 rfl rfl ?_
  refine law_ld hκ.1 C hs 1 rfl (by omega) dL_law_863 dL_law_864 dL_law_865 dL_law_866 dL_law_867 ?_
  refine law_ld hκ.1 C hs 2 rfl (by omega) dL_law_868 dL_law_869 dL_law_870 dL_law_871 dL_law_872 ?_
  refine law_ld hκ.1 C hs 3 rfl (by omega) dL_law_873 dL_law_874 dL_law_875 dL_law_876 dL_law_877 ?_
  obtain ⟨v, X', M', e1, e2, hR'⟩ := law_two hR (N := N) (by omega) (f (i + 1)) (f (i + 2)) (f (i + 3))
  refine j_callV hκ.1.1 C (jM.frame (mt_x_two hκ N G e1) (wM κ G' M)) hL_x_two hy_l_x_two rfl (r := 0) rfl (ci := ciX0) (q := (RX0, TX0, 49)) (hκ.cl rfl) rfl dL_law_878 ⟨by show _ + 1 ≤ σ.1; omega, by decide, by omega, by omega, Nat.le_of_ble_eq_true rfl⟩ rfl (fun u w' h => ?_)
  obtain ⟨w1, ⟨rfl, rfl⟩, rfl⟩ := h
  refine j_aload_n C (x := G' 0) dL_law_881 rfl rfl ?_
  refine law_ld hκ.1 C hs 1 rfl (by omega) dL_law_882 dL_law_883 dL_law_884 dL_law_885 dL_law_886 ?_
  refine law_ld hκ.1 C hs 2 rfl (by omega) dL_law_887 dL_law_888 dL_law_889 dL_law_890 dL_law_891 ?_
  refine law_ld hκ.1 C hs 3 rfl (by omega) dL_law_892 dL_law_893 dL_law_894 dL_law_895 dL_law_896 ?_
  refine j_callV hκ.1.1 C (jM.frameR (mt_m_two hκ.1 N G' e2) (wX κ G _)) hL_m_two hy_l_m_two rfl (r := 1) rfl (ci := ciM) (q := (RX2, TX2, 54)) (hκ.cl rfl) rfl dL_law_897 ⟨by show _ + 1 ≤ σ.1; omega, by decide, by omega, by omega, Nat.le_of_ble_eq_true rfl⟩ rfl (fun u w' h => ?_)
  obtain ⟨w2, ⟨rfl, rfl⟩, rfl⟩ := h
  refine j_icmp_eq C dL_law_900 (tgt := 1744) (by decide) (fun _ => ?_) (fun c => absurd rfl c)
  exact j_widen (by omega) (by omega) (K _ _ hR')
theorem lc_19 (hκ : jX κ) (hN : 20000 ≤ N) (C : jC κ Γ cL_law 4 RLaw ret) (hs : lwS κ b Len f) (hR : R X M) (hi : i + 5 < Len) (hf : lwFit σ k n) (K : lwK κ Γ σ G G' b i k n) : J κ Γ σ 4 (PW κ G G' X M) k n 905 (lwL G G' b i) [] := by
  obtain ⟨f1, f2, f3⟩ := hf
  refine j_aload_n C (x := G 0) dL_law_905 rfl rfl ?_
  refine law_ld hκ.1 C hs 1 rfl (by omega) dL_law_906 dL_law_907 dL_law_908 dL_law_909 dL_law_910 ?_
  refine law_ld hκ.1 C hs 2 rfl (by omega) dL_law_911 dL_law_912 dL_law_913 dL_law_914 dL_law_915 ?_
  refine law_ld hκ.1 C hs 3 rfl (by omega) dL_law_916 dL_law_917 dL_law_918 dL_law_919 dL_law_920 ?_
  refine law_ld hκ.1 C hs 4 rfl (by omega) dL_law_921 dL_law_922 dL_law_923 dL_law_924 dL_law_925 ?_
  obtain ⟨v, X', M', e1, e2, hR'⟩ := law_success hR (N := N) (by omega) (f (i + 1)) (f (i + 2)) (f (i + 3)) (f (i + 4))
  refine j_callV hκ.1.1 C (jM.frame (mt_x_success hκ N G e1) (wM κ G' M)) hL_x_success hy_l_x_success rfl (r := 0) rfl (ci := ciX0) (q := (RX0, TX0, 49)) (hκ.cl rfl) rfl dL_law_926 ⟨by show _ + 1 ≤ σ.1; omega, by decide, by omega, by omega, Nat.le_of_ble_eq_true rfl⟩ rfl (fun u w' h => ?_)
  obtain ⟨w1, ⟨rfl, rfl⟩, rfl⟩ := h
  refine j_aload_n C (x := G' 0) dL_law_929 rfl rfl ?_
  refine law_ld hκ.1 C hs 1 rfl (by omega) dL_law_930 dL_law_931 dL_law_932 dL_law_933 dL_law_934 ?_
  refine law_ld hκ.1 C hs 2 rfl (by omega) dL_law_935 dL_law_936 dL_law_937 dL_law_938 dL_law_939 ?_
  refine law_ld hκ.1 C hs 3 rfl (by omega) dL_law_940 dL_law_941 dL_law_942 dL_law_943 dL_law_944 ?_
  refine law_ld hκ.1 C hs 4 rfl (by omega) dL_law_945 dL_law_946 dL_law_947 dL_law_948 dL_law_949 ?_
  refine j_callV hκ.1.1 C (jM.frameR (mt_m_success hκ.1 N G' e2) (wX κ G _)) hL_m_success hy_l_m_success rfl (r := 1) rfl (ci := ciM) (q := (RX2, TX2, 54)) (hκ.cl rfl) rfl dL_law_950 ⟨by show _ + 1 ≤ σ.1; omega, by decide, by omega, by omega, Nat.le_of_ble_eq_true rfl⟩ rfl (fun u w' h => ?_)
  obtain ⟨w2, ⟨rfl, rfl⟩, rfl⟩ := h
  refine j_icmp_eq C dL_law_953 (tgt := 1744) (by decide) (fun _ => ?_) (fun c => absurd rfl c)
  exact j_widen (by omega) (by omega) (K _ _ hR')
theorem lc_20 (hκ : jX κ) (hN : 20000 ≤ N) (C : jC κ Γ cL_law 4 RLaw ret) (hs : lwS κ b Len f) (hR : R X M) (hi : i + 5 < Len) (hf : lwFit σ k n) (K : lwK κ Γ σ G G' b i k n) : J κ Γ σ 4 (PW κ G G' X M) k n 958 (lwL G G' b i) [] := by
  obtain ⟨f1, f2, f3⟩ := hf
  refine j_aload_n C (x := G 0) dL_law_958 rfl rfl ?_
  refine law_ld hκ.1 C hs 1 rfl (by omega) dL_law_959 dL_law_960 dL_law_961 dL_law_962 dL_law_963 ?_
  refine law_ld hκ.1 C hs 2 rfl (by omega) dL_law_964 dL_law_965 dL_law_966 dL_law_967 dL_law_968 ?_
  refine law_ld hκ.1 C hs 3 rfl (by omega) dL_law_969 dL_law_970 dL_law_971 dL_law_972 dL_law_973 ?_
  refine law_ld hκ.1 C hs 4 rfl (by omega) dL_law_974 dL_law_975 dL_law_976 dL_law_977 dL_law_978 ?_
  obtain ⟨v, X', M', e1, e2, hR'⟩ := law_bestMinute hR (N := N) (by omega) (f (i + 1)) (f (i + 2)) (f (i + 3)) (f (i + 4))
  refine j_callV hκ.1.1 C (jM.frame (mt_x_bestMinute hκ N G e1) (wM κ G' M)) hL_x_bestMinute hy_l_x_bestMinute rfl (r := 0) rfl (ci := ciX0) (q := (RX0, TX0, 49)) (hκ.cl rfl) rfl dL_law_979 ⟨by show _ + 1 ≤ σ.1; omega, by decide, by omega, by omega, Nat.le_of_ble_eq_true rfl⟩ rfl (fun u w' h => ?_)
  obtain ⟨w1, ⟨rfl, rfl⟩, rfl⟩ := h
  refine j_aload_n C (x := G' 0) dL_law_982 rfl rfl ?_
  refine law_ld hκ.1 C hs 1 rfl (by omega) dL_law_983 dL_law_984 dL_law_985 dL_law_986 dL_law_987 ?_
  refine law_ld hκ.1 C hs 2 rfl (by omega) dL_law_988 dL_law_989 dL_law_990 dL_law_991 dL_law_992 ?_
  refine law_ld hκ.1 C hs 3 rfl (by omega) dL_law_993 dL_law_994 dL_law_995 dL_law_996 dL_law_997 ?_
  refine law_ld hκ.1 C hs 4 rfl (by omega) dL_law_998 dL_law_999 dL_law_1000 dL_law_1001 dL_law_1002 ?_
  refine j_callV hκ.1.1 C (jM.frameR (mt_m_bestMinute hκ.1 N G' e2) (wX κ G _)) hL_m_bestMinute hy_l_m_bestMinute rfl (r := 1) rfl (ci := ciM) (q := (RX2, TX2, 54)) (hκ.cl rfl) rfl dL_law_1003 ⟨by show _ + 1 ≤ σ.1; omega, by decide, by omega, by omega, Nat.le_of_ble_eq_true rfl⟩ rfl (fun u w' h => ?_)
  obtain ⟨w2, ⟨rfl, rfl⟩, rfl⟩ := h
  refine j_icmp_eq C dL_law_1006 (tgt := 1744) (by decide) (fun _ => ?_) (fun c => absurd rfl c)
  exact j_widen (by omega) (by omega) (K _ _ hR')
theorem lc_21 (hκ : jX κ) (hN : 20000 ≤ N) (C : jC κ Γ cL_law 4 RLaw ret) (hs : lwS κ b Len f) (hR : R X M) (hi : i + 5 < Len) (hf : lwFit σ k n) (K : lwK κ Γ σ G G' b i k n) : J κ Γ σ 4 (PW κ G G' X M) k n 1011 (lwL G G' b i) [] := by
  obtain ⟨f1, f2, f3⟩ := hf
  refine j_aload_n C (x := G 0) dL_law_1011 rfl rfl ?_
  refine law_ld hκ.1 C hs 1 rfl (by omega) dL_law_1012 dL_law_1013 dL_law_1014 dL_law_1015 dL_law_1016 ?_
  refine law_ld hκ.1 C hs 2 rfl (by omega) dL_law_1017 dL_law_1018 dL_law_1019 dL_law_1020 dL_law_1021 ?_
  refine law_ld hκ.1 C hs 3 rfl (by omega) dL_law_1022 dL_law_1023 dL_law_1024 dL_law_1025 dL_law_1026 ?_
  obtain ⟨v, X', M', e1, e2, hR'⟩ := law_mix hR (N := N) (by omega) (f (i + 1)) (f (i + 2)) (f (i + 3))
  refine j_callV hκ.1.1 C (jM.frame (mt_x_mix hκ N G e1) (wM κ G' M)) hL_x_mix hy_l_x_mix rfl (r := 0) rfl (ci := ciX0) (q := (RX0, TX0, 49)) (hκ.cl rfl) rfl dL_law_1027 ⟨by show _ + 1 ≤ σ.1; omega, by decide, by omega, by omega, Nat.le_of_ble_eq_true rfl⟩ rfl (fun u w' h => ?_)
  obtain ⟨w1, ⟨rfl, rfl⟩, rfl⟩ := h
  refine j_aload_n C (x := G' 0) dL_law_1030 rfl rfl ?_
  refine law_ld hκ.1 C hs 1 rfl (by omega) dL_law_1031 dL_law_1032 dL_law_1033 dL_law_1034 dL_law_1035 ?_
  refine law_ld hκ.1 C hs 2 rfl (by omega) dL_law_1036 dL_law_1037 dL_law_1038 dL_law_1039 dL_law_1040 ?_
  refine law_ld hκ.1 C hs 3 rfl (by omega) dL_law_1041 dL_law_1042 dL_law_1043 dL_law_1044 dL_law_1045 ?_
  refine j_callV hκ.1.1 C (jM.frameR (mt_m_mix hκ.1 N G' e2) (wX κ G _)) hL_m_mix hy_l_m_mix rfl (r := 1) rfl (ci := ciM) (q := (RX2, TX2, 54)) (hκ.cl rfl) rfl dL_law_1046 ⟨by show _ + 1 ≤ σ.1; omega, by decide, by omega, by omega, Nat.le_of_ble_eq_true rfl⟩ rfl (fun u w' h => ?_)
  obtain ⟨w2, ⟨rfl, rfl⟩, rfl⟩ := h
  refine j_icmp_eq C dL_law_1049 (tgt := 1744) (by decide) (fun _ => ?_) (fun c => absurd rfl c)
  exact j_widen (by omega) (by omega) (K _ _ hR')
theorem lc_22 (hκ : jX κ) (hN : 20000 ≤ N) (C : jC κ Γ cL_law 4 RLaw ret) (hs : lwS κ b Len f) (hR : R X M) (hi : i + 5 < Len) (hf : lwFit σ k n) (K : lwK κ Γ σ G G' b i k n) : J κ Γ σ 4 (PW κ G G' X M) k n 1054 (lwL G G' b i) [] := by
  obtain ⟨f1, f2, f3⟩ := hf
  refine j_aload_n C (x := G 0) dL_law_1054 rfl rfl ?_
  refine law_ld hκ.1 C hs 1 rfl (by omega) dL_law_1055 dL_law_1056 dL_law_1057 dL_law_1058 dL_law_1059 ?_
  refine law_ld hκ.1 C hs 2 rfl (by omega) dL_law_1060 dL_law_1061 dL_law_1062 dL_law_1063 dL_law_1064 ?_
  obtain ⟨v, X', e1, e2, hR'⟩ := law_paper hR (N := N) (by omega) (f (i + 1)) (f (i + 2))
  refine j_callV hκ.1.1 C (jM.frame (mt_x_paper hκ N G e1) (wM κ G' M)) hL_x_paper hy_l_x_paper rfl (r := 0) rfl (ci := ciX0) (q := (RX0, TX0, 49)) (hκ.cl rfl) rfl dL_law_1065 ⟨by show _ + 1 ≤ σ.1; omega, by decide, by omega, by omega, Nat.le_of_ble_eq_true rfl⟩ rfl (fun u w' h => ?_)
  obtain ⟨w1, ⟨rfl, rfl⟩, rfl⟩ := h
  refine j_aload_n C (x := G' 0) dL_law_1068 rfl rfl ?_
  refine law_ld hκ.1 C hs 1 rfl (by omega) dL_law_1069 dL_law_1070 dL_law_1071 dL_law_1072 dL_law_1073 ?_
  refine law_ld hκ.1 C hs 2 rfl (by omega) dL_law_1074 dL_law_1075 dL_law_1076 dL_law_1077 dL_law_1078 ?_
  refine j_callV hκ.1.1 C (jM.frameR (mt_m_paper hκ.1 N G' e2) (wX κ G _)) hL_m_paper hy_l_m_paper rfl (r := 1) rfl (ci := ciM) (q := (RX2, TX2, 54)) (hκ.cl rfl) rfl dL_law_1079 ⟨by show _ + 1 ≤ σ.1; omega, by decide, by omega, by omega, Nat.le_of_ble_eq_true rfl⟩ rfl (fun u w' h => ?_)
  obtain ⟨w2, ⟨rfl, rfl⟩, rfl⟩ := h
  refine j_icmp_eq C dL_law_1082 (tgt := 1744) (by decide) (fun _ => ?_) (fun c => absurd rfl c)
  exact j_widen (by omega) (by omega) (K _ _ hR')
theorem lc_23 (hκ : jX κ) (hN : 20000 ≤ N) (C : jC κ Γ cL_law 4 RLaw ret) (hs : lwS κ b Len f) (hR : R X M) (hi : i + 5 < Len) (hf : lwFit σ k n) (K : lwK κ Γ σ G G' b i k n) : J κ Γ σ 4 (PW κ G G' X M) k n 1087 (lwL G G' b i) [] := by
  obtain ⟨f1, f2, f3⟩ := hf
  refine j_aload_n C (x := G 0) dL_law_1087 rfl rfl ?_
  refine law_ld hκ.1 C hs 1 rfl (by omega) dL_law_1088 dL_law_1089 dL_law_1090 dL_law_1091 dL_law_1092 ?_
  obtain ⟨v, X', M', e1, e2, hR'⟩ := law_which hR (N := N) (by omega) (f (i + 1))
  refine j_callV hκ.1.1 C (jM.frame (mt_x_which hκ N G e1) (wM κ G' M)) hL_x_which hy_l_x_which rfl (r := 0) rfl (ci := ciX0) (q := (RX0, TX0, 49)) (hκ.cl rfl) rfl dL_law_1093 ⟨by show _ + 1 ≤ σ.1; omega, by decide, by omega, by omega, Nat.le_of_ble_eq_true rfl⟩ rfl (fun u w' h => ?_)
  obtain ⟨w1, ⟨rfl, rfl⟩, rfl⟩ := h
  refine j_aload_n C (x := G' 0) dL_law_1096 rfl rfl ?_
  refine law_ld hκ.1 C hs 1 rfl (by omega) dL_law_1097 dL_law_1098 dL_law_1099 dL_law_1100 dL_law_1101 ?_
  refine j_callV hκ.1.1 C (jM.frameR (mt_m_which hκ.1 N G' e2) (wX κ G _)) hL_m_which hy_l_m_which rfl (r := 1) rfl (ci := ciM) (q := (RX2, TX2, 54)) (hκ.cl rfl) rfl dL_law_1102 ⟨by show _ + 1 ≤ σ.1; omega, by decide, by omega, by omega, Nat.le_of_ble_eq_true rfl⟩ rfl (fun u w' h => ?_)
  obtain ⟨w2, ⟨rfl, rfl⟩, rfl⟩ := h
  refine j_icmp_eq C dL_law_1105 (tgt := 1744) (by decide) (fun _ => ?_) (fun c => absurd rfl c)
  exact j_widen (by omega) (by omega) (K _ _ hR')
theorem lc_24 (hκ : jX κ) (hN : 20000 ≤ N) (C : jC κ Γ cL_law 4 RLaw ret) (hs : lwS κ b Len f) (hR : R X M) (hi : i + 5 < Len) (hf : lwFit σ k n) (K : lwK κ Γ σ G G' b i k n) : J κ Γ σ 4 (PW κ G G' X M) k n 1110 (lwL G G' b i) [] := by
  obtain ⟨f1, f2, f3⟩ := hf
  refine j_aload_n C (x := G 0) dL_law_1110 rfl rfl ?_
  refine law_ld hκ.1 C hs 1 rfl (by omega) dL_law_1111 dL_law_1112 dL_law_1113 dL_law_1114 dL_law_1115 ?_
  refine law_ld hκ.1 C hs 2 rfl (by omega) dL_law_1116 dL_law_1117 dL_law_1118 dL_law_1119 dL_law_1120 ?_
  obtain ⟨v, X', M', e1, e2, hR'⟩ := law_fit hR (N := N) (by omega) (f (i + 1)) (f (i + 2))
  refine j_callV hκ.1.1 C (jM.frame (mt_x_fit hκ N G e1) (wM κ G' M)) hL_x_fit hy_l_x_fit rfl (r := 0) rfl (ci := ciX0) (q := (RX0, TX0, 49)) (hκ.cl rfl) rfl dL_law_1121 ⟨by show _ + 1 ≤ σ.1; omega, by decide, by omega, by omega, Nat.le_of_ble_eq_true rfl⟩ rfl (fun u w' h => ?_)
  obtain ⟨w1, ⟨rfl, rfl⟩, rfl⟩ := h
  refine j_aload_n C (x := G' 0) dL_law_1124 rfl rfl ?_
  refine law_ld hκ.1 C hs 1 rfl (by omega) dL_law_1125 dL_law_1126 dL_law_1127 dL_law_1128 dL_law_1129 ?_
  refine law_ld hκ.1 C hs 2 rfl (by omega) dL_law_1130 dL_law_1131 dL_law_1132 dL_law_1133 dL_law_1134 ?_
  refine j_callV hκ.1.1 C (jM.frameR (mt_m_fit hκ.1 N G' e2) (wX κ G _)) hL_m_fit hy_l_m_fit rfl (r := 1) rfl (ci := ciM) (q := (RX2, TX2, 54)) (hκ.cl rfl) rfl dL_law_1135 ⟨by show _ + 1 ≤ σ.1; omega, by decide, by omega, by omega, Nat.le_of_ble_eq_true rfl⟩ rfl (fun u w' h => ?_)
  obtain ⟨w2, ⟨rfl, rfl⟩, rfl⟩ := h
  refine j_icmp_eq C dL_law_1138 (tgt := 1744) (by decide) (fun _ => ?_) (fun c => absurd rfl c)
  exact j_widen (by omega) (by omega) (K _ _ hR')
theorem lc_25 (hκ : jX κ) (hN : 20000 ≤ N) (C : jC κ Γ cL_law 4 RLaw ret) (hs : lwS κ b Len f) (hR : R X M) (hi : i + 5 < Len) (hf : lwFit σ k n) (K : lwK κ Γ σ G G' b i k n) : J κ Γ σ 4 (PW κ G G' X M) k n 1143 (lwL G G' b i) [] := by
  obtain ⟨f1, f2, f3⟩ := hf
  refine j_aload_n C (x := G 0) dL_law_1143 rfl rfl ?_
  refine law_ld hκ.1 C hs 1 rfl (by omega) dL_law_1144 dL_law_1145 dL_law_1146 dL_law_1147 dL_law_1148 ?_
  refine law_ld hκ.1 C hs 2 rfl (by omega) dL_law_1149 dL_law_1150 dL_law_1151 dL_law_1152 dL_law_1153 ?_
  obtain ⟨v, e1, e2⟩ := law_hang hR (N := N) (by omega) (f (i + 1)) (f (i + 2))
  have hR' := hR
  refine j_callV hκ.1.1 C (jM.frame (mt_x_hang hκ N G e1) (wM κ G' M)) hL_x_hang hy_l_x_hang rfl (r := 0) rfl (ci := ciX0) (q := (RX0, TX0, 49)) (hκ.cl rfl) rfl dL_law_1154 ⟨by show _ + 1 ≤ σ.1; omega, by decide, by omega, by omega, Nat.le_of_ble_eq_true rfl⟩ rfl (fun u w' h => ?_)
  obtain ⟨w1, ⟨rfl, rfl⟩, rfl⟩ := h
  refine j_aload_n C (x := G' 0) dL_law_1157 rfl rfl ?_
  refine law_ld hκ.1 C hs 1 rfl (by omega) dL_law_1158 dL_law_1159 dL_law_1160 dL_law_1161 dL_law_1162 ?_
  refine law_ld hκ.1 C hs 2 rfl (by omega) dL_law_1163 dL_law_1164 dL_law_1165 dL_law_1166 dL_law_1167 ?_
  refine j_callV hκ.1.1 C (jM.frameR (mt_m_hang hκ.1 N G' e2) (wX κ G _)) hL_m_hang hy_l_m_hang rfl (r := 1) rfl (ci := ciM) (q := (RX2, TX2, 54)) (hκ.cl rfl) rfl dL_law_1168 ⟨by show _ + 1 ≤ σ.1; omega, by decide, by omega, by omega, Nat.le_of_ble_eq_true rfl⟩ rfl (fun u w' h => ?_)
  obtain ⟨w2, ⟨rfl, rfl⟩, rfl⟩ := h
  refine j_icmp_eq C dL_law_1171 (tgt := 1744) (by decide) (fun _ => ?_) (fun c => absurd rfl c)
  exact j_widen (by omega) (by omega) (K _ _ hR')
theorem lc_26 (hκ : jX κ) (hN : 20000 ≤ N) (C : jC κ Γ cL_law 4 RLaw ret) (hs : lwS κ b Len f) (hR : R X M) (hi : i + 5 < Len) (hf : lwFit σ k n) (K : lwK κ Γ σ G G' b i k n) : J κ Γ σ 4 (PW κ G G' X M) k n 1176 (lwL G G' b i) [] := by
  obtain ⟨f1, f2, f3⟩ := hf
  refine j_aload_n C (x := G 0) dL_law_1176 rfl rfl ?_
  refine law_ld hκ.1 C hs 1 rfl (by omega) dL_law_1177 dL_law_1178 dL_law_1179 dL_law_1180 dL_law_1181 ?_
  refine law_ld hκ.1 C hs 2 rfl (by omega) dL_law_1182 dL_law_1183 dL_law_1184 dL_law_1185 dL_law_1186 ?_
  refine law_ld hκ.1 C hs 3 rfl (by omega) dL_law_1187 dL_law_1188 dL_law_1189 dL_law_1190 dL_law_1191 ?_
  obtain ⟨v, X', e1, e2, hR'⟩ := law_drawn hR (N := N) (by omega) (f (i + 1)) (f (i + 2)) (f (i + 3))
  refine j_callV hκ.1.1 C (jM.frame (mt_x_drawn hκ N G e1) (wM κ G' M)) hL_x_drawn hy_l_x_drawn rfl (r := 0) rfl (ci := ciX0) (q := (RX0, TX0, 49)) (hκ.cl rfl) rfl dL_law_1192 ⟨by show _ + 1 ≤ σ.1; omega, by decide, by omega, by omega, Nat.le_of_ble_eq_true rfl⟩ rfl (fun u w' h => ?_)
  obtain ⟨w1, ⟨rfl, rfl⟩, rfl⟩ := h
  refine j_aload_n C (x := G' 0) dL_law_1195 rfl rfl ?_
  refine law_ld hκ.1 C hs 1 rfl (by omega) dL_law_1196 dL_law_1197 dL_law_1198 dL_law_1199 dL_law_1200 ?_
  refine law_ld hκ.1 C hs 2 rfl (by omega) dL_law_1201 dL_law_1202 dL_law_1203 dL_law_1204 dL_law_1205 ?_
  refine law_ld hκ.1 C hs 3 rfl (by omega) dL_law_1206 dL_law_1207 dL_law_1208 dL_law_1209 dL_law_1210 ?_
  refine j_callV hκ.1.1 C (jM.frameR (mt_m_drawn hκ.1 N G' e2) (wX κ G _)) hL_m_drawn hy_l_m_drawn rfl (r := 1) rfl (ci := ciM) (q := (RX2, TX2, 54)) (hκ.cl rfl) rfl dL_law_1211 ⟨by show _ + 1 ≤ σ.1; omega, by decide, by omega, by omega, Nat.le_of_ble_eq_true rfl⟩ rfl (fun u w' h => ?_)
  obtain ⟨w2, ⟨rfl, rfl⟩, rfl⟩ := h
  refine j_icmp_eq C dL_law_1214 (tgt := 1744) (by decide) (fun _ => ?_) (fun c => absurd rfl c)
  exact j_widen (by omega) (by omega) (K _ _ hR')
theorem lc_27 (hκ : jX κ) (hN : 20000 ≤ N) (C : jC κ Γ cL_law 4 RLaw ret) (hs : lwS κ b Len f) (hR : R X M) (hi : i + 5 < Len) (hf : lwFit σ k n) (K : lwK κ Γ σ G G' b i k n) : J κ Γ σ 4 (PW κ G G' X M) k n 1219 (lwL G G' b i) [] := by
  obtain ⟨f1, f2, f3⟩ := hf
  refine j_aload_n C (x := G 0) dL_law_1219 rfl rfl ?_
  refine law_ld hκ.1 C hs 1 rfl (by omega) dL_law_1220 dL_law_1221 dL_law_1222 dL_law_1223 dL_law_1224 ?_
  obtain ⟨v, X', M', e1, e2, hR'⟩ := law_walk hR (f (i + 1))
  refine j_callV hκ.1.1 C (jM.frame (mt_x_walk hκ G e1) (wM κ G' M)) hL_x_walk hy_l_x_walk rfl (r := 0) rfl (ci := ciX0) (q := (RX0, TX0, 49)) (hκ.cl rfl) rfl dL_law_1225 ⟨by show _ + 1 ≤ σ.1; omega, by decide, by omega, by omega, Nat.le_of_ble_eq_true rfl⟩ rfl (fun u w' h => ?_)
  obtain ⟨w1, ⟨rfl, rfl⟩, rfl⟩ := h
  refine j_aload_n C (x := G' 0) dL_law_1228 rfl rfl ?_
  refine law_ld hκ.1 C hs 1 rfl (by omega) dL_law_1229 dL_law_1230 dL_law_1231 dL_law_1232 dL_law_1233 ?_
  refine j_callV hκ.1.1 C (jM.frameR (mt_m_walk hκ.1 G' e2) (wX κ G _)) hL_m_walk hy_l_m_walk rfl (r := 1) rfl (ci := ciM) (q := (RX2, TX2, 54)) (hκ.cl rfl) rfl dL_law_1234 ⟨by show _ + 1 ≤ σ.1; omega, by decide, by omega, by omega, Nat.le_of_ble_eq_true rfl⟩ rfl (fun u w' h => ?_)
  obtain ⟨w2, ⟨rfl, rfl⟩, rfl⟩ := h
  refine j_icmp_eq C dL_law_1237 (tgt := 1744) (by decide) (fun _ => ?_) (fun c => absurd rfl c)
  exact j_widen (by omega) (by omega) (K _ _ hR')
theorem lc_28 (hκ : jX κ) (hN : 20000 ≤ N) (C : jC κ Γ cL_law 4 RLaw ret) (hs : lwS κ b Len f) (hR : R X M) (hi : i + 5 < Len) (hf : lwFit σ k n) (K : lwK κ Γ σ G G' b i k n) : J κ Γ σ 4 (PW κ G G' X M) k n 1242 (lwL G G' b i) [] := by
  obtain ⟨f1, f2, f3⟩ := hf
  refine j_aload_n C (x := G 0) dL_law_1242 rfl rfl ?_
  refine law_ld hκ.1 C hs 1 rfl (by omega) dL_law_1243 dL_law_1244 dL_law_1245 dL_law_1246 dL_law_1247 ?_
  obtain ⟨v, X', M', e1, e2, hR'⟩ := law_waits hR (f (i + 1))
  refine j_callV hκ.1.1 C (jM.frame (mt_x_waits hκ G e1) (wM κ G' M)) hL_x_waits hy_l_x_waits rfl (r := 0) rfl (ci := ciX0) (q := (RX0, TX0, 49)) (hκ.cl rfl) rfl dL_law_1248 ⟨by show _ + 1 ≤ σ.1; omega, by decide, by omega, by omega, Nat.le_of_ble_eq_true rfl⟩ rfl (fun u w' h => ?_)
  obtain ⟨w1, ⟨rfl, rfl⟩, rfl⟩ := h
  refine j_aload_n C (x := G' 0) dL_law_1251 rfl rfl ?_
  refine law_ld hκ.1 C hs 1 rfl (by omega) dL_law_1252 dL_law_1253 dL_law_1254 dL_law_1255 dL_law_1256 ?_
  refine j_callV hκ.1.1 C (jM.frameR (mt_m_waits hκ.1 G' e2) (wX κ G _)) hL_m_waits hy_l_m_waits rfl (r := 1) rfl (ci := ciM) (q := (RX2, TX2, 54)) (hκ.cl rfl) rfl dL_law_1257 ⟨by show _ + 1 ≤ σ.1; omega, by decide, by omega, by omega, Nat.le_of_ble_eq_true rfl⟩ rfl (fun u w' h => ?_)
  obtain ⟨w2, ⟨rfl, rfl⟩, rfl⟩ := h
  refine j_icmp_eq C dL_law_1260 (tgt := 1744) (by decide) (fun _ => ?_) (fun c => absurd rfl c)
  exact j_widen (by omega) (by omega) (K _ _ hR')
theorem lc_29 (hκ : jX κ) (hN : 20000 ≤ N) (C : jC κ Γ cL_law 4 RLaw ret) (hs : lwS κ b Len f) (hR : R X M) (hi : i + 5 < Len) (hf : lwFit σ k n) (K : lwK κ Γ σ G G' b i k n) : J κ Γ σ 4 (PW κ G G' X M) k n 1265 (lwL G G' b i) [] := by
  obtain ⟨f1, f2, f3⟩ := hf
  refine j_aload_n C (x := G 0) dL_law_1265 rfl rfl ?_
  obtain ⟨v, X', M', e1, e2, hR'⟩ := law_home hR
  refine j_callV hκ.1.1 C (jM.frame (mt_x_home hκ G e1) (wM κ G' M)) hL_x_home hy_l_x_home rfl (r := 0) rfl (ci := ciX0) (q := (RX0, TX0, 49)) (hκ.cl rfl) rfl dL_law_1266 ⟨by show _ + 1 ≤ σ.1; omega, by decide, by omega, by omega, Nat.le_of_ble_eq_true rfl⟩ rfl (fun u w' h => ?_)
  obtain ⟨w1, ⟨rfl, rfl⟩, rfl⟩ := h
  refine j_aload_n C (x := G' 0) dL_law_1269 rfl rfl ?_
  refine j_callV hκ.1.1 C (jM.frameR (mt_m_home hκ.1 G' e2) (wX κ G _)) hL_m_home hy_l_m_home rfl (r := 1) rfl (ci := ciM) (q := (RX2, TX2, 54)) (hκ.cl rfl) rfl dL_law_1270 ⟨by show _ + 1 ≤ σ.1; omega, by decide, by omega, by omega, Nat.le_of_ble_eq_true rfl⟩ rfl (fun u w' h => ?_)
  obtain ⟨w2, ⟨rfl, rfl⟩, rfl⟩ := h
  refine j_icmp_eq C dL_law_1273 (tgt := 1744) (by decide) (fun _ => ?_) (fun c => absurd rfl c)
  exact j_widen (by omega) (by omega) (K _ _ hR')
theorem lc_30 (hκ : jX κ) (hN : 20000 ≤ N) (C : jC κ Γ cL_law 4 RLaw ret) (hs : lwS κ b Len f) (hR : R X M) (hi : i + 5 < Len) (hf : lwFit σ k n) (K : lwK κ Γ σ G G' b i k n) : J κ Γ σ 4 (PW κ G G' X M) k n 1278 (lwL G G' b i) [] := by
  obtain ⟨f1, f2, f3⟩ := hf
  refine j_aload_n C (x := G 0) dL_law_1278 rfl rfl ?_
  refine law_ld hκ.1 C hs 1 rfl (by omega) dL_law_1279 dL_law_1280 dL_law_1281 dL_law_1282 dL_law_1283 ?_
  obtain ⟨v, e1, e2⟩ := law_led hR (f (i + 1))
  have hR' := hR
  refine j_callV hκ.1.1 C (jM.frame (mt_x_led hκ G e1) (wM κ G' M)) hL_x_led hy_l_x_led rfl (r := 0) rfl (ci := ciX0) (q := (RX0, TX0, 49)) (hκ.cl rfl) rfl dL_law_1284 ⟨by show _ + 1 ≤ σ.1; omega, by decide, by omega, by omega, Nat.le_of_ble_eq_true rfl⟩ rfl (fun u w' h => ?_)
  obtain ⟨w1, ⟨rfl, rfl⟩, rfl⟩ := h
  refine j_aload_n C (x := G' 0) dL_law_1287 rfl rfl ?_
  refine law_ld hκ.1 C hs 1 rfl (by omega) dL_law_1288 dL_law_1289 dL_law_1290 dL_law_1291 dL_law_1292 ?_
  refine j_callV hκ.1.1 C (jM.frameR (mt_m_led hκ.1 G' e2) (wX κ G _)) hL_m_led hy_l_m_led rfl (r := 1) rfl (ci := ciM) (q := (RX2, TX2, 54)) (hκ.cl rfl) rfl dL_law_1293 ⟨by show _ + 1 ≤ σ.1; omega, by decide, by omega, by omega, Nat.le_of_ble_eq_true rfl⟩ rfl (fun u w' h => ?_)
  obtain ⟨w2, ⟨rfl, rfl⟩, rfl⟩ := h
  refine j_icmp_eq C dL_law_1296 (tgt := 1744) (by decide) (fun _ => ?_) (fun c => absurd rfl c)
  exact j_widen (by omega) (by omega) (K _ _ hR')
theorem lc_31 (hκ : jX κ) (hN : 20000 ≤ N) (C : jC κ Γ cL_law 4 RLaw ret) (hs : lwS κ b Len f) (hR : R X M) (hi : i + 5 < Len) (hf : lwFit σ k n) (K : lwK κ Γ σ G G' b i k n) : J κ Γ σ 4 (PW κ G G' X M) k n 1301 (lwL G G' b i) [] := by
  obtain ⟨f1, f2, f3⟩ := hf
  refine j_aload_n C (x := G 0) dL_law_1301 rfl rfl ?_
  obtain ⟨v, X', M', e1, e2, hR'⟩ := law_image hR (N := N) (by omega)
  refine j_callV hκ.1.1 C (jM.frame (mt_x_image hκ N G e1) (wM κ G' M)) hL_x_image hy_l_x_image rfl (r := 0) rfl (ci := ciX0) (q := (RX0, TX0, 49)) (hκ.cl rfl) rfl dL_law_1302 ⟨by show _ + 1 ≤ σ.1; omega, by decide, by omega, by omega, Nat.le_of_ble_eq_true rfl⟩ rfl (fun u w' h => ?_)
  obtain ⟨w1, ⟨rfl, rfl⟩, rfl⟩ := h
  refine j_aload_n C (x := G' 0) dL_law_1305 rfl rfl ?_
  refine j_callV hκ.1.1 C (jM.frameR (mt_m_image hκ.1 N G' e2) (wX κ G _)) hL_m_image hy_l_m_image rfl (r := 1) rfl (ci := ciM) (q := (RX2, TX2, 54)) (hκ.cl rfl) rfl dL_law_1306 ⟨by show _ + 1 ≤ σ.1; omega, by decide, by omega, by omega, Nat.le_of_ble_eq_true rfl⟩ rfl (fun u w' h => ?_)
  obtain ⟨w2, ⟨rfl, rfl⟩, rfl⟩ := h
  refine j_icmp_eq C dL_law_1309 (tgt := 1744) (by decide) (fun _ => ?_) (fun c => absurd rfl c)
  exact j_widen (by omega) (by omega) (K _ _ hR')
theorem lc_32 (hκ : jX κ) (hN : 20000 ≤ N) (C : jC κ Γ cL_law 4 RLaw ret) (hs : lwS κ b Len f) (hR : R X M) (hi : i + 5 < Len) (hf : lwFit σ k n) (K : lwK κ Γ σ G G' b i k n) : J κ Γ σ 4 (PW κ G G' X M) k n 1314 (lwL G G' b i) [] := by
  obtain ⟨f1, f2, f3⟩ := hf
  refine j_aload_n C (x := G 0) dL_law_1314 rfl rfl ?_
  obtain ⟨v, X', M', e1, e2, hR'⟩ := law_back hR (N := N) (by omega)
  refine j_callV hκ.1.1 C (jM.frame (mt_x_back hκ N G e1) (wM κ G' M)) hL_x_back hy_l_x_back rfl (r := 0) rfl (ci := ciX0) (q := (RX0, TX0, 49)) (hκ.cl rfl) rfl dL_law_1315 ⟨by show _ + 1 ≤ σ.1; omega, by decide, by omega, by omega, Nat.le_of_ble_eq_true rfl⟩ rfl (fun u w' h => ?_)
  obtain ⟨w1, ⟨rfl, rfl⟩, rfl⟩ := h
  refine j_aload_n C (x := G' 0) dL_law_1318 rfl rfl ?_
  refine j_callV hκ.1.1 C (jM.frameR (mt_m_back hκ.1 N G' e2) (wX κ G _)) hL_m_back hy_l_m_back rfl (r := 1) rfl (ci := ciM) (q := (RX2, TX2, 54)) (hκ.cl rfl) rfl dL_law_1319 ⟨by show _ + 1 ≤ σ.1; omega, by decide, by omega, by omega, Nat.le_of_ble_eq_true rfl⟩ rfl (fun u w' h => ?_)
  obtain ⟨w2, ⟨rfl, rfl⟩, rfl⟩ := h
  refine j_icmp_eq C dL_law_1322 (tgt := 1744) (by decide) (fun _ => ?_) (fun c => absurd rfl c)
  exact j_widen (by omega) (by omega) (K _ _ hR')
theorem lc_33 (hκ : jX κ) (hN : 20000 ≤ N) (C : jC κ Γ cL_law 4 RLaw ret) (hs : lwS κ b Len f) (hR : R X M) (hi : i + 5 < Len) (hf : lwFit σ k n) (K : lwK κ Γ σ G G' b i k n) : J κ Γ σ 4 (PW κ G G' X M) k n 1327 (lwL G G' b i) [] := by
  obtain ⟨f1, f2, f3⟩ := hf
  refine j_aload_n C (x := G 0) dL_law_1327 rfl rfl ?_
  obtain ⟨v, X', M', e1, e2, hR'⟩ := law_undo hR
  refine j_callV hκ.1.1 C (jM.frame (mt_x_undo hκ G e1) (wM κ G' M)) hL_x_undo hy_l_x_undo rfl (r := 0) rfl (ci := ciX0) (q := (RX0, TX0, 49)) (hκ.cl rfl) rfl dL_law_1328 ⟨by show _ + 1 ≤ σ.1; omega, by decide, by omega, by omega, Nat.le_of_ble_eq_true rfl⟩ rfl (fun u w' h => ?_)
  obtain ⟨w1, ⟨rfl, rfl⟩, rfl⟩ := h
  refine j_aload_n C (x := G' 0) dL_law_1331 rfl rfl ?_
  refine j_callV hκ.1.1 C (jM.frameR (mt_m_undo hκ.1 G' e2) (wX κ G _)) hL_m_undo hy_l_m_undo rfl (r := 1) rfl (ci := ciM) (q := (RX2, TX2, 54)) (hκ.cl rfl) rfl dL_law_1332 ⟨by show _ + 1 ≤ σ.1; omega, by decide, by omega, by omega, Nat.le_of_ble_eq_true rfl⟩ rfl (fun u w' h => ?_)
  obtain ⟨w2, ⟨rfl, rfl⟩, rfl⟩ := h
  refine j_icmp_eq C dL_law_1335 (tgt := 1744) (by decide) (fun _ => ?_) (fun c => absurd rfl c)
  exact j_widen (by omega) (by omega) (K _ _ hR')
theorem lc_34 (hκ : jX κ) (hN : 20000 ≤ N) (C : jC κ Γ cL_law 4 RLaw ret) (hs : lwS κ b Len f) (hR : R X M) (hi : i + 5 < Len) (hf : lwFit σ k n) (K : lwK κ Γ σ G G' b i k n) : J κ Γ σ 4 (PW κ G G' X M) k n 1340 (lwL G G' b i) [] := by
  obtain ⟨f1, f2, f3⟩ := hf
  refine j_aload_n C (x := G 0) dL_law_1340 rfl rfl ?_
  obtain ⟨v, X', M', e1, e2, hR'⟩ := law_redo hR
  refine j_callV hκ.1.1 C (jM.frame (mt_x_redo hκ G e1) (wM κ G' M)) hL_x_redo hy_l_x_redo rfl (r := 0) rfl (ci := ciX0) (q := (RX0, TX0, 49)) (hκ.cl rfl) rfl dL_law_1341 ⟨by show _ + 1 ≤ σ.1; omega, by decide, by omega, by omega, Nat.le_of_ble_eq_true rfl⟩ rfl (fun u w' h => ?_)
  obtain ⟨w1, ⟨rfl, rfl⟩, rfl⟩ := h
  refine j_aload_n C (x := G' 0) dL_law_1344 rfl rfl ?_
  refine j_callV hκ.1.1 C (jM.frameR (mt_m_redo hκ.1 G' e2) (wX κ G _)) hL_m_redo hy_l_m_redo rfl (r := 1) rfl (ci := ciM) (q := (RX2, TX2, 54)) (hκ.cl rfl) rfl dL_law_1345 ⟨by show _ + 1 ≤ σ.1; omega, by decide, by omega, by omega, Nat.le_of_ble_eq_true rfl⟩ rfl (fun u w' h => ?_)
  obtain ⟨w2, ⟨rfl, rfl⟩, rfl⟩ := h
  refine j_icmp_eq C dL_law_1348 (tgt := 1744) (by decide) (fun _ => ?_) (fun c => absurd rfl c)
  exact j_widen (by omega) (by omega) (K _ _ hR')
theorem lc_35 (hκ : jX κ) (hN : 20000 ≤ N) (C : jC κ Γ cL_law 4 RLaw ret) (hs : lwS κ b Len f) (hR : R X M) (hi : i + 5 < Len) (hf : lwFit σ k n) (K : lwK κ Γ σ G G' b i k n) : J κ Γ σ 4 (PW κ G G' X M) k n 1353 (lwL G G' b i) [] := by
  obtain ⟨f1, f2, f3⟩ := hf
  refine j_aload_n C (x := G 0) dL_law_1353 rfl rfl ?_
  refine law_ld hκ.1 C hs 1 rfl (by omega) dL_law_1354 dL_law_1355 dL_law_1356 dL_law_1357 dL_law_1358 ?_
  obtain ⟨v, M', e2, e1⟩ := law_body hR (f (i + 1))
  refine j_callV hκ.1.1 C (jM.frame (mt_x_body hκ G e1) (wM κ G' M)) hL_x_body hy_l_x_body rfl (r := 0) rfl (ci := ciX0) (q := (RX0, TX0, 49)) (hκ.cl rfl) rfl dL_law_1359 ⟨by show _ + 1 ≤ σ.1; omega, by decide, by omega, by omega, Nat.le_of_ble_eq_true rfl⟩ rfl (fun u w' h => ?_)
  obtain ⟨w1, ⟨v', X', ⟨rfl, hR'⟩, rfl, rfl⟩, rfl⟩ := h
  refine j_aload_n C (x := G' 0) dL_law_1362 rfl rfl ?_
  refine law_ld hκ.1 C hs 1 rfl (by omega) dL_law_1363 dL_law_1364 dL_law_1365 dL_law_1366 dL_law_1367 ?_
  refine j_callV hκ.1.1 C (jM.frameR (mt_m_body hκ.1 G' e2) (wX κ G _)) hL_m_body hy_l_m_body rfl (r := 1) rfl (ci := ciM) (q := (RX2, TX2, 54)) (hκ.cl rfl) rfl dL_law_1368 ⟨by show _ + 1 ≤ σ.1; omega, by decide, by omega, by omega, Nat.le_of_ble_eq_true rfl⟩ rfl (fun u w' h => ?_)
  obtain ⟨w2, ⟨rfl, rfl⟩, rfl⟩ := h
  refine j_icmp_eq C dL_law_1371 (tgt := 1744) (by decide) (fun _ => ?_) (fun c => absurd rfl c)
  exact j_widen (by omega) (by omega) (K _ _ hR')
theorem lc_36 (hκ : jX κ) (hN : 20000 ≤ N) (C : jC κ Γ cL_law 4 RLaw ret) (hs : lwS κ b Len f) (hR : R X M) (hi : i + 5 < Len) (hf : lwFit σ k n) (K : lwK κ Γ σ G G' b i k n) : J κ Γ σ 4 (PW κ G G' X M) k n 1376 (lwL G G' b i) [] := by
  obtain ⟨f1, f2, f3⟩ := hf
  refine j_aload_n C (x := G 0) dL_law_1376 rfl rfl ?_
  refine law_ld hκ.1 C hs 1 rfl (by omega) dL_law_1377 dL_law_1378 dL_law_1379 dL_law_1380 dL_law_1381 ?_
  refine law_ld hκ.1 C hs 2 rfl (by omega) dL_law_1382 dL_law_1383 dL_law_1384 dL_law_1385 dL_law_1386 ?_
  refine law_ld hκ.1 C hs 3 rfl (by omega) dL_law_1387 dL_law_1388 dL_law_1389 dL_law_1390 dL_law_1391 ?_
  obtain ⟨v, X', M', e1, e2, hR'⟩ := law_act hR (f (i + 1)) (f (i + 2)) (f (i + 3))
  refine j_callV hκ.1.1 C (jM.frame (mt_x_act hκ G e1) (wM κ G' M)) hL_x_act hy_l_x_act rfl (r := 0) rfl (ci := ciX0) (q := (RX0, TX0, 49)) (hκ.cl rfl) rfl dL_law_1392 ⟨by show _ + 1 ≤ σ.1; omega, by decide, by omega, by omega, Nat.le_of_ble_eq_true rfl⟩ rfl (fun u w' h => ?_)
  obtain ⟨w1, ⟨rfl, rfl⟩, rfl⟩ := h
  refine j_aload_n C (x := G' 0) dL_law_1395 rfl rfl ?_
  refine law_ld hκ.1 C hs 1 rfl (by omega) dL_law_1396 dL_law_1397 dL_law_1398 dL_law_1399 dL_law_1400 ?_
  refine law_ld hκ.1 C hs 2 rfl (by omega) dL_law_1401 dL_law_1402 dL_law_1403 dL_law_1404 dL_law_1405 ?_
  refine law_ld hκ.1 C hs 3 rfl (by omega) dL_law_1406 dL_law_1407 dL_law_1408 dL_law_1409 dL_law_1410 ?_
  refine j_callV hκ.1.1 C (jM.frameR (mt_m_act hκ.1 G' e2) (wX κ G _)) hL_m_act hy_l_m_act rfl (r := 1) rfl (ci := ciM) (q := (RX2, TX2, 54)) (hκ.cl rfl) rfl dL_law_1411 ⟨by show _ + 1 ≤ σ.1; omega, by decide, by omega, by omega, Nat.le_of_ble_eq_true rfl⟩ rfl (fun u w' h => ?_)
  obtain ⟨w2, ⟨rfl, rfl⟩, rfl⟩ := h
  refine j_icmp_eq C dL_law_1414 (tgt := 1744) (by decide) (fun _ => ?_) (fun c => absurd rfl c)
  exact j_widen (by omega) (by omega) (K _ _ hR')
theorem lc_37 (hκ : jX κ) (hN : 20000 ≤ N) (C : jC κ Γ cL_law 4 RLaw ret) (hs : lwS κ b Len f) (hR : R X M) (hi : i + 5 < Len) (hf : lwFit σ k n) (K : lwK κ Γ σ G G' b i k n) : J κ Γ σ 4 (PW κ G G' X M) k n 1419 (lwL G G' b i) [] := by
  obtain ⟨f1, f2, f3⟩ := hf
  refine j_aload_n C (x := G 0) dL_law_1419 rfl rfl ?_
  refine law_ld hκ.1 C hs 1 rfl (by omega) dL_law_1420 dL_law_1421 dL_law_1422 dL_law_1423 dL_law_1424 ?_
  obtain ⟨v, e1, e2⟩ := law_trace hR (f (i + 1))
  have hR' := hR
  refine j_callV hκ.1.1 C (jM.frame (mt_x_trace hκ G e1) (wM κ G' M)) hL_x_trace hy_l_x_trace rfl (r := 0) rfl (ci := ciX0) (q := (RX0, TX0, 49)) (hκ.cl rfl) rfl dL_law_1425 ⟨by show _ + 1 ≤ σ.1; omega, by decide, by omega, by omega, Nat.le_of_ble_eq_true rfl⟩ rfl (fun u w' h => ?_)
  obtain ⟨w1, ⟨rfl, rfl⟩, rfl⟩ := h
  refine j_aload_n C (x := G' 0) dL_law_1428 rfl rfl ?_
  refine law_ld hκ.1 C hs 1 rfl (by omega) dL_law_1429 dL_law_1430 dL_law_1431 dL_law_1432 dL_law_1433 ?_
  refine j_callV hκ.1.1 C (jM.frameR (mt_m_trace hκ.1 G' e2) (wX κ G _)) hL_m_trace hy_l_m_trace rfl (r := 1) rfl (ci := ciM) (q := (RX2, TX2, 54)) (hκ.cl rfl) rfl dL_law_1434 ⟨by show _ + 1 ≤ σ.1; omega, by decide, by omega, by omega, Nat.le_of_ble_eq_true rfl⟩ rfl (fun u w' h => ?_)
  obtain ⟨w2, ⟨rfl, rfl⟩, rfl⟩ := h
  refine j_icmp_eq C dL_law_1437 (tgt := 1744) (by decide) (fun _ => ?_) (fun c => absurd rfl c)
  exact j_widen (by omega) (by omega) (K _ _ hR')
theorem lc_38 (hκ : jX κ) (hN : 20000 ≤ N) (C : jC κ Γ cL_law 4 RLaw ret) (hs : lwS κ b Len f) (hR : R X M) (hi : i + 5 < Len) (hf : lwFit σ k n) (K : lwK κ Γ σ G G' b i k n) : J κ Γ σ 4 (PW κ G G' X M) k n 1442 (lwL G G' b i) [] := by
  obtain ⟨f1, f2, f3⟩ := hf
  refine j_aload_n C (x := G 0) dL_law_1442 rfl rfl ?_
  refine law_ld hκ.1 C hs 1 rfl (by omega) dL_law_1443 dL_law_1444 dL_law_1445 dL_law_1446 dL_law_1447 ?_
  refine law_ld hκ.1 C hs 2 rfl (by omega) dL_law_1448 dL_law_1449 dL_law_1450 dL_law_1451 dL_law_1452 ?_
  obtain ⟨v, X', M', e1, e2, hR'⟩ := law_keep hR (f (i + 1)) (f (i + 2))
  refine j_callV hκ.1.1 C (jM.frame (mt_x_keep hκ G e1) (wM κ G' M)) hL_x_keep hy_l_x_keep rfl (r := 0) rfl (ci := ciX0) (q := (RX0, TX0, 49)) (hκ.cl rfl) rfl dL_law_1453 ⟨by show _ + 1 ≤ σ.1; omega, by decide, by omega, by omega, Nat.le_of_ble_eq_true rfl⟩ rfl (fun u w' h => ?_)
  obtain ⟨w1, ⟨rfl, rfl⟩, rfl⟩ := h
  refine j_aload_n C (x := G' 0) dL_law_1456 rfl rfl ?_
  refine law_ld hκ.1 C hs 1 rfl (by omega) dL_law_1457 dL_law_1458 dL_law_1459 dL_law_1460 dL_law_1461 ?_
  refine law_ld hκ.1 C hs 2 rfl (by omega) dL_law_1462 dL_law_1463 dL_law_1464 dL_law_1465 dL_law_1466 ?_
  refine j_callV hκ.1.1 C (jM.frameR (mt_m_keep hκ.1 G' e2) (wX κ G _)) hL_m_keep hy_l_m_keep rfl (r := 1) rfl (ci := ciM) (q := (RX2, TX2, 54)) (hκ.cl rfl) rfl dL_law_1467 ⟨by show _ + 1 ≤ σ.1; omega, by decide, by omega, by omega, Nat.le_of_ble_eq_true rfl⟩ rfl (fun u w' h => ?_)
  obtain ⟨w2, ⟨rfl, rfl⟩, rfl⟩ := h
  refine j_icmp_eq C dL_law_1470 (tgt := 1744) (by decide) (fun _ => ?_) (fun c => absurd rfl c)
  exact j_widen (by omega) (by omega) (K _ _ hR')
theorem lc_39 (hκ : jX κ) (hN : 20000 ≤ N) (C : jC κ Γ cL_law 4 RLaw ret) (hs : lwS κ b Len f) (hR : R X M) (hi : i + 5 < Len) (hf : lwFit σ k n) (K : lwK κ Γ σ G G' b i k n) : J κ Γ σ 4 (PW κ G G' X M) k n 1475 (lwL G G' b i) [] := by
  obtain ⟨f1, f2, f3⟩ := hf
  refine j_aload_n C (x := G 0) dL_law_1475 rfl rfl ?_
  refine law_ld hκ.1 C hs 1 rfl (by omega) dL_law_1476 dL_law_1477 dL_law_1478 dL_law_1479 dL_law_1480 ?_
  refine law_ld hκ.1 C hs 2 rfl (by omega) dL_law_1481 dL_law_1482 dL_law_1483 dL_law_1484 dL_law_1485 ?_
  refine law_ld hκ.1 C hs 3 rfl (by omega) dL_law_1486 dL_law_1487 dL_law_1488 dL_law_1489 dL_law_1490 ?_
  obtain ⟨v, M', e2, e1⟩ := law_row hR (N := N) (by omega) (f (i + 1)) (f (i + 2)) (f (i + 3))
  refine j_callVH hκ.1.1 C (jM.frame (mt_x_row hκ G e1) (wM κ G' M)) hL_x_row hy_l_x_row rfl (r := 0) rfl (ci := ciX0) (q := (RX0, TX0, 49)) (hκ.cl rfl) rfl dL_law_1491 ⟨by show _ + 1 ≤ σ.1; omega, by decide, by omega, by omega, Nat.le_of_ble_eq_true rfl⟩ rfl (fun u w' h => ?_)
  obtain ⟨w1, ⟨v', X', ⟨rfl, hR'⟩, rfl, rfl⟩, rfl⟩ := h
  refine j_aload_n C (x := G' 0) dL_law_1494 rfl rfl ?_
  refine law_ld hκ.1 C hs 1 rfl (by omega) dL_law_1495 dL_law_1496 dL_law_1497 dL_law_1498 dL_law_1499 ?_
  refine law_ld hκ.1 C hs 2 rfl (by omega) dL_law_1500 dL_law_1501 dL_law_1502 dL_law_1503 dL_law_1504 ?_
  refine law_ld hκ.1 C hs 3 rfl (by omega) dL_law_1505 dL_law_1506 dL_law_1507 dL_law_1508 dL_law_1509 ?_
  refine j_callV hκ.1.1 C (jM.frameR (mt_m_row hκ.1 N G' e2) (wX κ G _)) hL_m_row hy_l_m_row rfl (r := 1) rfl (ci := ciM) (q := (RX2, TX2, 54)) (hκ.cl rfl) rfl dL_law_1510 ⟨by show _ + 1 ≤ σ.1; omega, by decide, by omega, by omega, Nat.le_of_ble_eq_true rfl⟩ rfl (fun u w' h => ?_)
  obtain ⟨w2, ⟨rfl, rfl⟩, rfl⟩ := h
  refine j_icmp_eq C dL_law_1513 (tgt := 1744) (by decide) (fun _ => ?_) (fun c => absurd rfl c)
  exact j_widen (by omega) (by omega) (K _ _ hR')
theorem lc_40 (hκ : jX κ) (hN : 20000 ≤ N) (C : jC κ Γ cL_law 4 RLaw ret) (hs : lwS κ b Len f) (hR : R X M) (hi : i + 5 < Len) (hf : lwFit σ k n) (K : lwK κ Γ σ G G' b i k n) : J κ Γ σ 4 (PW κ G G' X M) k n 1518 (lwL G G' b i) [] := by
  obtain ⟨f1, f2, f3⟩ := hf
  refine j_aload_n C (x := G 0) dL_law_1518 rfl rfl ?_
  refine law_ld hκ.1 C hs 1 rfl (by omega) dL_law_1519 dL_law_1520 dL_law_1521 dL_law_1522 dL_law_1523 ?_
  refine law_ld hκ.1 C hs 2 rfl (by omega) dL_law_1524 dL_law_1525 dL_law_1526 dL_law_1527 dL_law_1528 ?_
  refine law_ld hκ.1 C hs 3 rfl (by omega) dL_law_1529 dL_law_1530 dL_law_1531 dL_law_1532 dL_law_1533 ?_
  refine j_i2l C dL_law_1534 ?_
  refine j_bipush C (v := 32) dL_law_1535 rfl ?_
  refine j_lshl C dL_law_1537 ?_
  refine law_ld hκ.1 C hs 4 rfl (by omega) dL_law_1538 dL_law_1539 dL_law_1540 dL_law_1541 dL_law_1542 ?_
  refine j_i2l C dL_law_1543 ?_
  refine j_ldc2 C dL_law_1544 q2230 ?_
  refine j_land C dL_law_1547 ?_
  refine j_lor C dL_law_1548 ?_
  obtain ⟨v, X', M', e1, e2, hR'⟩ := law_put hR (f (i + 1)) (f (i + 2)) (((f (i + 3)).toInt64 <<< ((32 : Int32).toInt64 &&& 63)) ||| ((f (i + 4)).toInt64 &&& (4294967295 : Int64)))
  refine j_callVH hκ.1.1 C (jM.frame (mt_x_put hκ G e1) (wM κ G' M)) hL_x_put hy_l_x_put rfl (r := 0) rfl (ci := ciX0) (q := (RX0, TX0, 49)) (hκ.cl rfl) rfl dL_law_1549 ⟨by show _ + 1 ≤ σ.1; omega, by decide, by omega, by omega, Nat.le_of_ble_eq_true rfl⟩ rfl (fun u w' h => ?_)
  obtain ⟨w1, ⟨rfl, rfl⟩, rfl⟩ := h
  refine j_aload_n C (x := G' 0) dL_law_1552 rfl rfl ?_
  refine law_ld hκ.1 C hs 1 rfl (by omega) dL_law_1553 dL_law_1554 dL_law_1555 dL_law_1556 dL_law_1557 ?_
  refine law_ld hκ.1 C hs 2 rfl (by omega) dL_law_1558 dL_law_1559 dL_law_1560 dL_law_1561 dL_law_1562 ?_
  refine law_ld hκ.1 C hs 3 rfl (by omega) dL_law_1563 dL_law_1564 dL_law_1565 dL_law_1566 dL_law_1567 ?_
  refine j_i2l C dL_law_1568 ?_
  refine j_bipush C (v := 32) dL_law_1569 rfl ?_
  refine j_lshl C dL_law_1571 ?_
  refine law_ld hκ.1 C hs 4 rfl (by omega) dL_law_1572 dL_law_1573 dL_law_1574 dL_law_1575 dL_law_1576 ?_
  refine j_i2l C dL_law_1577 ?_
  refine j_ldc2 C dL_law_1578 q2230 ?_
  refine j_land C dL_law_1581 ?_
  refine j_lor C dL_law_1582 ?_
  refine j_callV hκ.1.1 C (jM.frameR (mt_m_put hκ.1 G' e2) (wX κ G _)) hL_m_put hy_l_m_put rfl (r := 1) rfl (ci := ciM) (q := (RX2, TX2, 54)) (hκ.cl rfl) rfl dL_law_1583 ⟨by show _ + 1 ≤ σ.1; omega, by decide, by omega, by omega, Nat.le_of_ble_eq_true rfl⟩ rfl (fun u w' h => ?_)
  obtain ⟨w2, ⟨rfl, rfl⟩, rfl⟩ := h
  refine j_icmp_eq C dL_law_1586 (tgt := 1744) (by decide) (fun _ => ?_) (fun c => absurd rfl c)
  exact j_widen (by omega) (by omega) (K _ _ hR')
theorem lc_41 (hκ : jX κ) (hN : 20000 ≤ N) (C : jC κ Γ cL_law 4 RLaw ret) (hs : lwS κ b Len f) (hR : R X M) (hi : i + 5 < Len) (hf : lwFit σ k n) (K : lwK κ Γ σ G G' b i k n) : J κ Γ σ 4 (PW κ G G' X M) k n 1591 (lwL G G' b i) [] := by
  obtain ⟨f1, f2, f3⟩ := hf
  refine j_aload_n C (x := G 0) dL_law_1591 rfl rfl ?_
  refine law_ld hκ.1 C hs 1 rfl (by omega) dL_law_1592 dL_law_1593 dL_law_1594 dL_law_1595 dL_law_1596 ?_
  refine law_ld hκ.1 C hs 2 rfl (by omega) dL_law_1597 dL_law_1598 dL_law_1599 dL_law_1600 dL_law_1601 ?_
  obtain ⟨v, e1, e2⟩ := law_element hR (f (i + 1)) (f (i + 2))
  have hR' := hR
  refine j_callVH hκ.1.1 C (jM.frame (mt_x_element hκ G e1) (wM κ G' M)) hL_x_element hy_l_x_element rfl (r := 0) rfl (ci := ciX0) (q := (RX0, TX0, 49)) (hκ.cl rfl) rfl dL_law_1602 ⟨by show _ + 1 ≤ σ.1; omega, by decide, by omega, by omega, Nat.le_of_ble_eq_true rfl⟩ rfl (fun u w' h => ?_)
  obtain ⟨w1, ⟨rfl, rfl⟩, rfl⟩ := h
  refine j_aload_n C (x := G' 0) dL_law_1605 rfl rfl ?_
  refine law_ld hκ.1 C hs 1 rfl (by omega) dL_law_1606 dL_law_1607 dL_law_1608 dL_law_1609 dL_law_1610 ?_
  refine law_ld hκ.1 C hs 2 rfl (by omega) dL_law_1611 dL_law_1612 dL_law_1613 dL_law_1614 dL_law_1615 ?_
  refine j_callV hκ.1.1 C (jM.frameR (mt_m_element hκ.1 G' e2) (wX κ G _)) hL_m_element hy_l_m_element rfl (r := 1) rfl (ci := ciM) (q := (RX2, TX2, 54)) (hκ.cl rfl) rfl dL_law_1616 ⟨by show _ + 1 ≤ σ.1; omega, by decide, by omega, by omega, Nat.le_of_ble_eq_true rfl⟩ rfl (fun u w' h => ?_)
  obtain ⟨w2, ⟨rfl, rfl⟩, rfl⟩ := h
  refine j_lcmp C dL_law_1619 ?_
  refine j_if_eq C dL_law_1620 (tgt := 1744) (by decide) (fun _ => ?_) (fun c => absurd ((lg_cmp_eq v v).mpr rfl) c)
  exact j_widen (by omega) (by omega) (K _ _ hR')
theorem lc_42 (hκ : jX κ) (hN : 20000 ≤ N) (C : jC κ Γ cL_law 4 RLaw ret) (hs : lwS κ b Len f) (hR : R X M) (hi : i + 5 < Len) (hf : lwFit σ k n) (K : lwK κ Γ σ G G' b i k n) : J κ Γ σ 4 (PW κ G G' X M) k n 1625 (lwL G G' b i) [] := by
  obtain ⟨f1, f2, f3⟩ := hf
  refine j_aload_n C (x := G 0) dL_law_1625 rfl rfl ?_
  refine law_ld hκ.1 C hs 1 rfl (by omega) dL_law_1626 dL_law_1627 dL_law_1628 dL_law_1629 dL_law_1630 ?_
  refine law_ld hκ.1 C hs 2 rfl (by omega) dL_law_1631 dL_law_1632 dL_law_1633 dL_law_1634 dL_law_1635 ?_
  refine law_ld hκ.1 C hs 3 rfl (by omega) dL_law_1636 dL_law_1637 dL_law_1638 dL_law_1639 dL_law_1640 ?_
  refine law_ld hκ.1 C hs 4 rfl (by omega) dL_law_1641 dL_law_1642 dL_law_1643 dL_law_1644 dL_law_1645 ?_
  refine law_ld hκ.1 C hs 5 rfl (by omega) dL_law_1646 dL_law_1647 dL_law_1648 dL_law_1649 dL_law_1650 ?_
  obtain ⟨v, X', M', e1, e2, hR'⟩ := law_shift hR (N := N) (by omega) (f (i + 1)) (f (i + 2)) (f (i + 3)) (f (i + 4)) (f (i + 5))
  refine j_callVH hκ.1.1 C (jM.frame (mt_x_shift hκ G e1) (wM κ G' M)) hL_x_shift hy_l_x_shift rfl (r := 0) rfl (ci := ciX0) (q := (RX0, TX0, 49)) (hκ.cl rfl) rfl dL_law_1651 ⟨by show _ + 1 ≤ σ.1; omega, by decide, by omega, by omega, Nat.le_of_ble_eq_true rfl⟩ rfl (fun u w' h => ?_)
  obtain ⟨w1, ⟨rfl, rfl⟩, rfl⟩ := h
  refine j_aload_n C (x := G' 0) dL_law_1654 rfl rfl ?_
  refine law_ld hκ.1 C hs 1 rfl (by omega) dL_law_1655 dL_law_1656 dL_law_1657 dL_law_1658 dL_law_1659 ?_
  refine law_ld hκ.1 C hs 2 rfl (by omega) dL_law_1660 dL_law_1661 dL_law_1662 dL_law_1663 dL_law_1664 ?_
  refine law_ld hκ.1 C hs 3 rfl (by omega) dL_law_1665 dL_law_1666 dL_law_1667 dL_law_1668 dL_law_1669 ?_
  refine law_ld hκ.1 C hs 4 rfl (by omega) dL_law_1670 dL_law_1671 dL_law_1672 dL_law_1673 dL_law_1674 ?_
  refine law_ld hκ.1 C hs 5 rfl (by omega) dL_law_1675 dL_law_1676 dL_law_1677 dL_law_1678 dL_law_1679 ?_
  refine j_callV hκ.1.1 C (jM.frameR (mt_m_shift hκ.1 N G' e2) (wX κ G _)) hL_m_shift hy_l_m_shift rfl (r := 1) rfl (ci := ciM) (q := (RX2, TX2, 54)) (hκ.cl rfl) rfl dL_law_1680 ⟨by show _ + 1 ≤ σ.1; omega, by decide, by omega, by omega, Nat.le_of_ble_eq_true rfl⟩ rfl (fun u w' h => ?_)
  obtain ⟨w2, ⟨rfl, rfl⟩, rfl⟩ := h
  refine j_icmp_eq C dL_law_1683 (tgt := 1744) (by decide) (fun _ => ?_) (fun c => absurd rfl c)
  exact j_widen (by omega) (by omega) (K _ _ hR')
theorem lc_43 (hκ : jX κ) (hN : 20000 ≤ N) (C : jC κ Γ cL_law 4 RLaw ret) (hs : lwS κ b Len f) (hR : R X M) (hi : i + 5 < Len) (hf : lwFit σ k n) (K : lwK κ Γ σ G G' b i k n) : J κ Γ σ 4 (PW κ G G' X M) k n 1688 (lwL G G' b i) [] := by
  obtain ⟨f1, f2, f3⟩ := hf
  refine j_aload_n C (x := G 0) dL_law_1688 rfl rfl ?_
  refine law_ld hκ.1 C hs 1 rfl (by omega) dL_law_1689 dL_law_1690 dL_law_1691 dL_law_1692 dL_law_1693 ?_
  refine law_ld hκ.1 C hs 2 rfl (by omega) dL_law_1694 dL_law_1695 dL_law_1696 dL_law_1697 dL_law_1698 ?_
  obtain ⟨v, e1, e2⟩ := law_taken hR (N := N) (by omega) (f (i + 1)) (f (i + 2))
  have hR' := hR
  refine j_callVH hκ.1.1 C (jM.frame (mt_x_taken hκ G e1) (wM κ G' M)) hL_x_taken hy_l_x_taken rfl (r := 0) rfl (ci := ciX0) (q := (RX0, TX0, 49)) (hκ.cl rfl) rfl dL_law_1699 ⟨by show _ + 1 ≤ σ.1; omega, by decide, by omega, by omega, Nat.le_of_ble_eq_true rfl⟩ rfl (fun u w' h => ?_)
  obtain ⟨w1, ⟨rfl, rfl⟩, rfl⟩ := h
  refine j_aload_n C (x := G' 0) dL_law_1702 rfl rfl ?_
  refine law_ld hκ.1 C hs 1 rfl (by omega) dL_law_1703 dL_law_1704 dL_law_1705 dL_law_1706 dL_law_1707 ?_
  refine law_ld hκ.1 C hs 2 rfl (by omega) dL_law_1708 dL_law_1709 dL_law_1710 dL_law_1711 dL_law_1712 ?_
  refine j_callV hκ.1.1 C (jM.frameR (mt_m_taken hκ.1 N G' e2) (wX κ G _)) hL_m_taken hy_l_m_taken rfl (r := 1) rfl (ci := ciM) (q := (RX2, TX2, 54)) (hκ.cl rfl) rfl dL_law_1713 ⟨by show _ + 1 ≤ σ.1; omega, by decide, by omega, by omega, Nat.le_of_ble_eq_true rfl⟩ rfl (fun u w' h => ?_)
  obtain ⟨w2, ⟨rfl, rfl⟩, rfl⟩ := h
  refine j_icmp_eq C dL_law_1716 (tgt := 1744) (by decide) (fun _ => ?_) (fun c => absurd rfl c)
  exact j_widen (by omega) (by omega) (K _ _ hR')
theorem lc_44 (hκ : jX κ) (hN : 20000 ≤ N) (C : jC κ Γ cL_law 4 RLaw ret) (hs : lwS κ b Len f) (hR : R X M) (hi : i + 5 < Len) (hf : lwFit σ k n) (K : lwK κ Γ σ G G' b i k n) : J κ Γ σ 4 (PW κ G G' X M) k n 1721 (lwL G G' b i) [] := by
  obtain ⟨f1, f2, f3⟩ := hf
  refine j_aload_n C (x := G 0) dL_law_1721 rfl rfl ?_
  refine law_ld hκ.1 C hs 1 rfl (by omega) dL_law_1722 dL_law_1723 dL_law_1724 dL_law_1725 dL_law_1726 ?_
  obtain ⟨v, e1, e2⟩ := law_count hR (f (i + 1))
  have hR' := hR
  refine j_callV hκ.1.1 C (jM.frame (mt_x_count hκ G e1) (wM κ G' M)) hL_x_count hy_l_x_count rfl (r := 0) rfl (ci := ciX0) (q := (RX0, TX0, 49)) (hκ.cl rfl) rfl dL_law_1727 ⟨by show _ + 1 ≤ σ.1; omega, by decide, by omega, by omega, Nat.le_of_ble_eq_true rfl⟩ rfl (fun u w' h => ?_)
  obtain ⟨w1, ⟨rfl, rfl⟩, rfl⟩ := h
  refine j_aload_n C (x := G' 0) dL_law_1730 rfl rfl ?_
  refine law_ld hκ.1 C hs 1 rfl (by omega) dL_law_1731 dL_law_1732 dL_law_1733 dL_law_1734 dL_law_1735 ?_
  refine j_callV hκ.1.1 C (jM.frameR (mt_m_count hκ.1 G' e2) (wX κ G _)) hL_m_count hy_l_m_count rfl (r := 1) rfl (ci := ciM) (q := (RX2, TX2, 54)) (hκ.cl rfl) rfl dL_law_1736 ⟨by show _ + 1 ≤ σ.1; omega, by decide, by omega, by omega, Nat.le_of_ble_eq_true rfl⟩ rfl (fun u w' h => ?_)
  obtain ⟨w2, ⟨rfl, rfl⟩, rfl⟩ := h
  refine j_icmp_eq C dL_law_1739 (tgt := 1744) (by decide) (fun _ => ?_) (fun c => absurd rfl c)
  exact j_widen (by omega) (by omega) (K _ _ hR')
end LCASES
