set_option maxRecDepth 100000
/-! act -/
def x_act (T : XS) (p1 : Int32) (p2 : Int32) (p3 : Int32) : Option (Int32 × XS) :=
  nm (xI T 44 0) fun T1 =>
  (x_isBody T1 p1).bind fun v3 =>
  (if (b2i v3) = 0 then
  some (0, T1)
  else
  (x_in p2 0 3).bind fun v5 =>
  (if (b2i v5) = 0 then
  some (0, T1)
  else
  chk 50 p1 (
  (T1.2.2.1 46 p1.toNatClampNeg).bind fun a7 =>
  (if p2 = 0 then
  (T1.2.2.2 a7).bind fun q159 =>
  (if q159.1 = 14 then
  (getO T1 a7 14).bind fun q161 =>
  b2 (k14_14_turnsIn T1 a7 p3) fun v164 T165 =>
  some (v164, T165)
  else if q159.1 = 15 then
  (getO T1 a7 15).bind fun q167 =>
  b2 (k15_15_turnsIn T1 a7 p3) fun v170 T171 =>
  some (v170, T171)
  else if q159.1 = 16 then
  (getO T1 a7 16).bind fun q173 =>
  b2 (k16_14_turnsIn T1 a7 p3) fun v176 T177 =>
  some (v176, T177)
  else if q159.1 = 17 then
  (getO T1 a7 17).bind fun q179 =>
  b2 (k17_14_turnsIn T1 a7 p3) fun v182 T183 =>
  some (v182, T183)
  else if q159.1 = 18 then
  (getO T1 a7 18).bind fun q185 =>
  b2 (k18_15_turnsIn T1 a7 p3) fun v188 T189 =>
  some (v188, T189)
  else if q159.1 = 19 then
  (getO T1 a7 19).bind fun q191 =>
  b2 (k19_14_turnsIn T1 a7 p3) fun v194 T195 =>
  some (v194, T195)
  else if q159.1 = 20 then
  (getO T1 a7 20).bind fun q197 =>
  b2 (k20_20_turnsIn T1 a7 p3) fun v200 T201 =>
  some (v200, T201)
  else if q159.1 = 21 then
  (getO T1 a7 21).bind fun q203 =>
  b2 (k21_15_turnsIn T1 a7 p3) fun v206 T207 =>
  some (v206, T207)
  else none)
  else
  (if p2 = 3 then
  (T1.2.2.2 a7).bind fun q109 =>
  (if q109.1 = 14 then
  (getO T1 a7 14).bind fun q111 =>
  b2 (k14_14_tells T1 a7 p3) fun v114 T115 =>
  some (v114, T115)
  else if q109.1 = 15 then
  (getO T1 a7 15).bind fun q117 =>
  b2 (k15_14_tells T1 a7 p3) fun v120 T121 =>
  some (v120, T121)
  else if q109.1 = 16 then
  (getO T1 a7 16).bind fun q123 =>
  b2 (k16_14_tells T1 a7 p3) fun v126 T127 =>
  some (v126, T127)
  else if q109.1 = 17 then
  (getO T1 a7 17).bind fun q129 =>
  b2 (k17_14_tells T1 a7 p3) fun v132 T133 =>
  some (v132, T133)
  else if q109.1 = 18 then
  (getO T1 a7 18).bind fun q135 =>
  b2 (k18_14_tells T1 a7 p3) fun v138 T139 =>
  some (v138, T139)
  else if q109.1 = 19 then
  (getO T1 a7 19).bind fun q141 =>
  b2 (k19_19_tells T1 a7 p3) fun v144 T145 =>
  some (v144, T145)
  else if q109.1 = 20 then
  (getO T1 a7 20).bind fun q147 =>
  b2 (k20_14_tells T1 a7 p3) fun v150 T151 =>
  some (v150, T151)
  else if q109.1 = 21 then
  (getO T1 a7 21).bind fun q153 =>
  b2 (k21_21_tells T1 a7 p3) fun v156 T157 =>
  some (v156, T157)
  else none)
  else
  (if p2 = 1 then
  (T1.2.2.2 a7).bind fun q59 =>
  (if q59.1 = 14 then
  (getO T1 a7 14).bind fun q61 =>
  b2 (k14_14_sees T1 a7 p3) fun v64 T65 =>
  some (v64, T65)
  else if q59.1 = 15 then
  (getO T1 a7 15).bind fun q67 =>
  b2 (k15_14_sees T1 a7 p3) fun v70 T71 =>
  some (v70, T71)
  else if q59.1 = 16 then
  (getO T1 a7 16).bind fun q73 =>
  b2 (k16_16_sees T1 a7 p3) fun v76 T77 =>
  some (v76, T77)
  else if q59.1 = 17 then
  (getO T1 a7 17).bind fun q79 =>
  b2 (k17_17_sees T1 a7 p3) fun v82 T83 =>
  some (v82, T83)
  else if q59.1 = 18 then
  (getO T1 a7 18).bind fun q85 =>
  b2 (k18_14_sees T1 a7 p3) fun v88 T89 =>
  some (v88, T89)
  else if q59.1 = 19 then
  (getO T1 a7 19).bind fun q91 =>
  b2 (k19_17_sees T1 a7 p3) fun v94 T95 =>
  some (v94, T95)
  else if q59.1 = 20 then
  (getO T1 a7 20).bind fun q97 =>
  b2 (k20_14_sees T1 a7 p3) fun v100 T101 =>
  some (v100, T101)
  else if q59.1 = 21 then
  (getO T1 a7 21).bind fun q103 =>
  b2 (k21_21_sees T1 a7 p3) fun v106 T107 =>
  some (v106, T107)
  else none)
  else
  (T1.2.2.2 a7).bind fun q9 =>
  (if q9.1 = 14 then
  (getO T1 a7 14).bind fun q11 =>
  b2 (k14_14_fears T1 a7 p3) fun v14 T15 =>
  some (v14, T15)
  else if q9.1 = 15 then
  (getO T1 a7 15).bind fun q17 =>
  b2 (k15_14_fears T1 a7 p3) fun v20 T21 =>
  some (v20, T21)
  else if q9.1 = 16 then
  (getO T1 a7 16).bind fun q23 =>
  b2 (k16_14_fears T1 a7 p3) fun v26 T27 =>
  some (v26, T27)
  else if q9.1 = 17 then
  (getO T1 a7 17).bind fun q29 =>
  b2 (k17_17_fears T1 a7 p3) fun v32 T33 =>
  some (v32, T33)
  else if q9.1 = 18 then
  (getO T1 a7 18).bind fun q35 =>
  b2 (k18_18_fears T1 a7 p3) fun v38 T39 =>
  some (v38, T39)
  else if q9.1 = 19 then
  (getO T1 a7 19).bind fun q41 =>
  b2 (k19_17_fears T1 a7 p3) fun v44 T45 =>
  some (v44, T45)
  else if q9.1 = 20 then
  (getO T1 a7 20).bind fun q47 =>
  b2 (k20_14_fears T1 a7 p3) fun v50 T51 =>
  some (v50, T51)
  else if q9.1 = 21 then
  (getO T1 a7 21).bind fun q53 =>
  b2 (k21_18_fears T1 a7 p3) fun v56 T57 =>
  some (v56, T57)
  else none)))))))
theorem mt_x_act {κ : jK} (hκ : jX κ) (G : Nat → Nat) {T : XS} {p1 : Int32} {p2 : Int32} {p3 : Int32} {v : Int32} {T' : XS} (h : x_act T p1 p2 p3 = some (v, T')) : jM κ yX0_act (ws_ yX0_act cX0_act 6 (some .int)) 7 0 0 [.ref (G 0), .int p1, .int p2, .int p3] (wX κ G T) (fun u w' => u = some (.int v) ∧ w' = wX κ G T') := by
  rw [x_act] at h
  refine jM.of (by decide) rfl (Nat.le_of_ble_eq_true rfl) fun Γ C _ => ?_
  show J κ Γ (7, 0, 0, (fun u w' => u = some (.int v) ∧ w' = wX κ G T')) 6 (wX κ G T) 0 0 0 [some (.ref (G 0)), some (.int p1), some (.int p2), some (.int p3), none, none] []
  refine j_aload_n C dX0_act_0 rfl rfl ?_
  refine j_iconst C (v := 0) dX0_act_1 rfl ?_
  refine jx_puti hκ C 44 (by decide) rfl rfl rfl q233 dX0_act_2 ?_
  refine jx_nmT h (fun T1 h => ?_)
  refine j_aload_n C dX0_act_5 rfl rfl ?_
  refine j_iload_n C dX0_act_6 rfl rfl ?_
  obtain ⟨v3, e2, h⟩ := ob h
  refine jx_Vi hκ C (mt_x_isBody hκ G e2) hG_x_isBody hy_x_isBody rfl rfl dX0_act_7 (jfit.of (Nat.le_of_ble_eq_true rfl) (by decide) (Nat.le_of_ble_eq_true rfl) (Nat.le_of_ble_eq_true rfl) (Nat.le_of_ble_eq_true rfl)) rfl ?_
  refine j_if_eq C dX0_act_10 (tgt := 22) (by decide) (fun c => ?_) (fun c => ?_)
  · replace h := ip c h
    refine j_iconst C (v := 0) dX0_act_22 rfl ?_
    obtain ⟨rfl, rfl⟩ := sp2 h
    exact j_iret C dX0_act_23 (Nat.le_of_ble_eq_true rfl) (Nat.le_of_ble_eq_true rfl) ⟨rfl, rfl⟩
  replace h := im c h
  refine j_iload_n C dX0_act_13 rfl rfl ?_
  refine j_iconst C (v := 0) dX0_act_14 rfl ?_
  refine j_iconst C (v := 3) dX0_act_15 rfl ?_
  obtain ⟨v5, e4, h⟩ := ob h
  refine j_Si hκ.1.1 C (mt_x_in hκ e4) hG_x_in hy_x_in rfl dX0_act_16 (jfit.of (Nat.le_of_ble_eq_true rfl) (by decide) (Nat.le_of_ble_eq_true rfl) (Nat.le_of_ble_eq_true rfl) (Nat.le_of_ble_eq_true rfl)) rfl ?_
  refine j_if_ne C dX0_act_19 (tgt := 24) (by decide) (fun c => ?_) (fun c => ?_)
  · replace h := im c h
    refine j_aload_n C dX0_act_24 rfl rfl ?_
    refine jx_geta hκ C 46 (by decide) rfl rfl q235 dX0_act_25 ?_
    refine j_iload_n C dX0_act_28 rfl rfl ?_
    obtain ⟨b6, h⟩ := chk_some h
    obtain ⟨a7, w8, h⟩ := ob h
    refine jx_aaldP hκ C 46 rfl rfl b6 w8 dX0_act_29 ?_
    refine j_astore C dX0_act_30 (by decide) rfl ?_
    refine j_iload_n C dX0_act_32 rfl rfl ?_
    refine j_if_ne C dX0_act_33 (tgt := 49) (by decide) (fun c => ?_) (fun c => ?_)
    · replace h := im c h
      refine j_iload_n C dX0_act_49 rfl rfl ?_
      refine j_iconst C (v := 3) dX0_act_50 rfl ?_
      refine j_icmp_ne C dX0_act_51 (tgt := 67) (by decide) (fun c => ?_) (fun c => ?_)
      · replace h := im c h
        refine j_iload_n C dX0_act_67 rfl rfl ?_
        refine j_iconst C (v := 1) dX0_act_68 rfl ?_
        refine j_icmp_ne C dX0_act_69 (tgt := 81) (by decide) (fun c => ?_) (fun c => ?_)
        · replace h := im c h
          refine j_aload C dX0_act_81 rfl ?_
          refine j_iload_n C dX0_act_83 rfl rfl ?_
          obtain ⟨q9, g10, h⟩ := ob h
          by_cases c16 : q9.1 = 14
          · replace h := ip c16 h
            obtain ⟨q11, g12, h⟩ := ob h
            obtain ⟨v14, T15, e13, h⟩ := ob2 h
            refine jx_U (As := [.int p3]) hκ C (mt_k14_14_fears hκ G e13) ⟨q1413, q2242, q2246, q1366, q141, q1367, (Or.inl q1365), by decide, by decide⟩ (N := 1) (by decide +kernel) rfl g12 (by decide) rfl rfl dX0_act_84 (jfit.of (Nat.le_of_ble_eq_true rfl) (by decide) (Nat.le_of_ble_eq_true rfl) (Nat.le_of_ble_eq_true rfl) (Nat.le_of_ble_eq_true rfl)) rfl ?_
            obtain ⟨rfl, rfl⟩ := sp2 h
            exact j_iret C dX0_act_87 (Nat.le_of_ble_eq_true rfl) (Nat.le_of_ble_eq_true rfl) ⟨rfl, rfl⟩
          replace h := im c16 h
          by_cases c22 : q9.1 = 15
          · replace h := ip c22 h
            obtain ⟨q17, g18, h⟩ := ob h
            obtain ⟨v20, T21, e19, h⟩ := ob2 h
            refine jx_U (As := [.int p3]) hκ C (mt_k15_14_fears hκ G e19) ⟨q1413, q2242, q2243, q1366, q141, q1367, (Or.inl q1365), by decide, by decide⟩ (N := 1) (by decide +kernel) rfl g18 (by decide) rfl rfl dX0_act_84 (jfit.of (Nat.le_of_ble_eq_true rfl) (by decide) (Nat.le_of_ble_eq_true rfl) (Nat.le_of_ble_eq_true rfl) (Nat.le_of_ble_eq_true rfl)) rfl ?_
            obtain ⟨rfl, rfl⟩ := sp2 h
            exact j_iret C dX0_act_87 (Nat.le_of_ble_eq_true rfl) (Nat.le_of_ble_eq_true rfl) ⟨rfl, rfl⟩
          replace h := im c22 h
          by_cases c28 : q9.1 = 16
          · replace h := ip c28 h
            obtain ⟨q23, g24, h⟩ := ob h
            obtain ⟨v26, T27, e25, h⟩ := ob2 h
            refine jx_U (As := [.int p3]) hκ C (mt_k16_14_fears hκ G e25) ⟨q1413, q2242, q2247, q1366, q141, q1367, (Or.inl q1365), by decide, by decide⟩ (N := 1) (by decide +kernel) rfl g24 (by decide) rfl rfl dX0_act_84 (jfit.of (Nat.le_of_ble_eq_true rfl) (by decide) (Nat.le_of_ble_eq_true rfl) (Nat.le_of_ble_eq_true rfl) (Nat.le_of_ble_eq_true rfl)) rfl ?_
            obtain ⟨rfl, rfl⟩ := sp2 h
            exact j_iret C dX0_act_87 (Nat.le_of_ble_eq_true rfl) (Nat.le_of_ble_eq_true rfl) ⟨rfl, rfl⟩
          replace h := im c28 h
          by_cases c34 : q9.1 = 17
          · replace h := ip c34 h
            obtain ⟨q29, g30, h⟩ := ob h
            obtain ⟨v32, T33, e31, h⟩ := ob2 h
            refine jx_U (As := [.int p3]) hκ C (mt_k17_17_fears hκ G e31) ⟨q1413, q2242, q2245, q1375, q144, q1376, (Or.inl q1365), by decide, by decide⟩ (N := 1) (by decide +kernel) rfl g30 (by decide) rfl rfl dX0_act_84 (jfit.of (Nat.le_of_ble_eq_true rfl) (by decide) (Nat.le_of_ble_eq_true rfl) (Nat.le_of_ble_eq_true rfl) (Nat.le_of_ble_eq_true rfl)) rfl ?_
            obtain ⟨rfl, rfl⟩ := sp2 h
            exact j_iret C dX0_act_87 (Nat.le_of_ble_eq_true rfl) (Nat.le_of_ble_eq_true rfl) ⟨rfl, rfl⟩
          replace h := im c34 h
          by_cases c40 : q9.1 = 18
          · replace h := ip c40 h
            obtain ⟨q35, g36, h⟩ := ob h
            obtain ⟨v38, T39, e37, h⟩ := ob2 h
            refine jx_U (As := [.int p3]) hκ C (mt_k18_18_fears hκ G e37) ⟨q1413, q2242, q2248, q1360, q145, q1361, (Or.inl q1365), by decide, by decide⟩ (N := 1) (by decide +kernel) rfl g36 (by decide) rfl rfl dX0_act_84 (jfit.of (Nat.le_of_ble_eq_true rfl) (by decide) (Nat.le_of_ble_eq_true rfl) (Nat.le_of_ble_eq_true rfl) (Nat.le_of_ble_eq_true rfl)) rfl ?_
            obtain ⟨rfl, rfl⟩ := sp2 h
            exact j_iret C dX0_act_87 (Nat.le_of_ble_eq_true rfl) (Nat.le_of_ble_eq_true rfl) ⟨rfl, rfl⟩
          replace h := im c40 h
          by_cases c46 : q9.1 = 19
          · replace h := ip c46 h
            obtain ⟨q41, g42, h⟩ := ob h
            obtain ⟨v44, T45, e43, h⟩ := ob2 h
            refine jx_U (As := [.int p3]) hκ C (mt_k19_17_fears hκ G e43) ⟨q1413, q2242, q2250, q1375, q144, q1376, (Or.inl q1365), by decide, by decide⟩ (N := 1) (by decide +kernel) rfl g42 (by decide) rfl rfl dX0_act_84 (jfit.of (Nat.le_of_ble_eq_true rfl) (by decide) (Nat.le_of_ble_eq_true rfl) (Nat.le_of_ble_eq_true rfl) (Nat.le_of_ble_eq_true rfl)) rfl ?_
            obtain ⟨rfl, rfl⟩ := sp2 h
            exact j_iret C dX0_act_87 (Nat.le_of_ble_eq_true rfl) (Nat.le_of_ble_eq_true rfl) ⟨rfl, rfl⟩
          replace h := im c46 h
          by_cases c52 : q9.1 = 20
          · replace h := ip c52 h
            obtain ⟨q47, g48, h⟩ := ob h
            obtain ⟨v50, T51, e49, h⟩ := ob2 h
            refine jx_U (As := [.int p3]) hκ C (mt_k20_14_fears hκ G e49) ⟨q1413, q2242, q2244, q1366, q141, q1367, (Or.inl q1365), by decide, by decide⟩ (N := 1) (by decide +kernel) rfl g48 (by decide) rfl rfl dX0_act_84 (jfit.of (Nat.le_of_ble_eq_true rfl) (by decide) (Nat.le_of_ble_eq_true rfl) (Nat.le_of_ble_eq_true rfl) (Nat.le_of_ble_eq_true rfl)) rfl ?_
            obtain ⟨rfl, rfl⟩ := sp2 h
            exact j_iret C dX0_act_87 (Nat.le_of_ble_eq_true rfl) (Nat.le_of_ble_eq_true rfl) ⟨rfl, rfl⟩
          replace h := im c52 h
          by_cases c58 : q9.1 = 21
          · replace h := ip c58 h
            obtain ⟨q53, g54, h⟩ := ob h
            obtain ⟨v56, T57, e55, h⟩ := ob2 h
            refine jx_U (As := [.int p3]) hκ C (mt_k21_18_fears hκ G e55) ⟨q1413, q2242, q2249, q1360, q145, q1361, (Or.inl q1365), by decide, by decide⟩ (N := 1) (by decide +kernel) rfl g54 (by decide) rfl rfl dX0_act_84 (jfit.of (Nat.le_of_ble_eq_true rfl) (by decide) (Nat.le_of_ble_eq_true rfl) (Nat.le_of_ble_eq_true rfl) (Nat.le_of_ble_eq_true rfl)) rfl ?_
            obtain ⟨rfl, rfl⟩ := sp2 h
            exact j_iret C dX0_act_87 (Nat.le_of_ble_eq_true rfl) (Nat.le_of_ble_eq_true rfl) ⟨rfl, rfl⟩
          replace h := im c58 h
          cases h
        replace h := ip c h
        refine j_aload C dX0_act_72 rfl ?_
        refine j_iload_n C dX0_act_74 rfl rfl ?_
        obtain ⟨q59, g60, h⟩ := ob h
        by_cases c66 : q59.1 = 14
        · replace h := ip c66 h
          obtain ⟨q61, g62, h⟩ := ob h
          obtain ⟨v64, T65, e63, h⟩ := ob2 h
          refine jx_U (As := [.int p3]) hκ C (mt_k14_14_sees hκ G e63) ⟨q1412, q1333, q1332, q1331, q141, q1345, (Or.inl q1355), by decide, by decide⟩ (N := 1) (by decide +kernel) rfl g62 (by decide) rfl rfl dX0_act_75 (jfit.of (Nat.le_of_ble_eq_true rfl) (by decide) (Nat.le_of_ble_eq_true rfl) (Nat.le_of_ble_eq_true rfl) (Nat.le_of_ble_eq_true rfl)) rfl ?_
          refine j_goto C dX0_act_78 (tgt := 87) (by decide) ?_
          obtain ⟨rfl, rfl⟩ := sp2 h
          exact j_iret C dX0_act_87 (Nat.le_of_ble_eq_true rfl) (Nat.le_of_ble_eq_true rfl) ⟨rfl, rfl⟩
        replace h := im c66 h
        by_cases c72 : q59.1 = 15
        · replace h := ip c72 h
          obtain ⟨q67, g68, h⟩ := ob h
          obtain ⟨v70, T71, e69, h⟩ := ob2 h
          refine jx_U (As := [.int p3]) hκ C (mt_k15_14_sees hκ G e69) ⟨q1412, q1333, q1334, q1331, q141, q1345, (Or.inl q1355), by decide, by decide⟩ (N := 1) (by decide +kernel) rfl g68 (by decide) rfl rfl dX0_act_75 (jfit.of (Nat.le_of_ble_eq_true rfl) (by decide) (Nat.le_of_ble_eq_true rfl) (Nat.le_of_ble_eq_true rfl) (Nat.le_of_ble_eq_true rfl)) rfl ?_
          refine j_goto C dX0_act_78 (tgt := 87) (by decide) ?_
          obtain ⟨rfl, rfl⟩ := sp2 h
          exact j_iret C dX0_act_87 (Nat.le_of_ble_eq_true rfl) (Nat.le_of_ble_eq_true rfl) ⟨rfl, rfl⟩
        replace h := im c72 h
        by_cases c78 : q59.1 = 16
        · replace h := ip c78 h
          obtain ⟨q73, g74, h⟩ := ob h
          obtain ⟨v76, T77, e75, h⟩ := ob2 h
          refine jx_U (As := [.int p3]) hκ C (mt_k16_16_sees hκ G e75) ⟨q1412, q1333, q1347, q1341, q143, q1342, (Or.inl q1355), by decide, by decide⟩ (N := 1) (by decide +kernel) rfl g74 (by decide) rfl rfl dX0_act_75 (jfit.of (Nat.le_of_ble_eq_true rfl) (by decide) (Nat.le_of_ble_eq_true rfl) (Nat.le_of_ble_eq_true rfl) (Nat.le_of_ble_eq_true rfl)) rfl ?_
          refine j_goto C dX0_act_78 (tgt := 87) (by decide) ?_
          obtain ⟨rfl, rfl⟩ := sp2 h
          exact j_iret C dX0_act_87 (Nat.le_of_ble_eq_true rfl) (Nat.le_of_ble_eq_true rfl) ⟨rfl, rfl⟩
        replace h := im c78 h
        by_cases c84 : q59.1 = 17
        · replace h := ip c84 h
          obtain ⟨q79, g80, h⟩ := ob h
          obtain ⟨v82, T83, e81, h⟩ := ob2 h
          refine jx_U (As := [.int p3]) hκ C (mt_k17_17_sees hκ G e81) ⟨q1412, q1333, q1336, q1337, q144, q1338, (Or.inl q1355), by decide, by decide⟩ (N := 1) (by decide +kernel) rfl g80 (by decide) rfl rfl dX0_act_75 (jfit.of (Nat.le_of_ble_eq_true rfl) (by decide) (Nat.le_of_ble_eq_true rfl) (Nat.le_of_ble_eq_true rfl) (Nat.le_of_ble_eq_true rfl)) rfl ?_
          refine j_goto C dX0_act_78 (tgt := 87) (by decide) ?_
          obtain ⟨rfl, rfl⟩ := sp2 h
          exact j_iret C dX0_act_87 (Nat.le_of_ble_eq_true rfl) (Nat.le_of_ble_eq_true rfl) ⟨rfl, rfl⟩
        replace h := im c84 h
        by_cases c90 : q59.1 = 18
        · replace h := ip c90 h
          obtain ⟨q85, g86, h⟩ := ob h
          obtain ⟨v88, T89, e87, h⟩ := ob2 h
          refine jx_U (As := [.int p3]) hκ C (mt_k18_14_sees hκ G e87) ⟨q1412, q1333, q1348, q1331, q141, q1345, (Or.inl q1355), by decide, by decide⟩ (N := 1) (by decide +kernel) rfl g86 (by decide) rfl rfl dX0_act_75 (jfit.of (Nat.le_of_ble_eq_true rfl) (by decide) (Nat.le_of_ble_eq_true rfl) (Nat.le_of_ble_eq_true rfl) (Nat.le_of_ble_eq_true rfl)) rfl ?_
          refine j_goto C dX0_act_78 (tgt := 87) (by decide) ?_
          obtain ⟨rfl, rfl⟩ := sp2 h
          exact j_iret C dX0_act_87 (Nat.le_of_ble_eq_true rfl) (Nat.le_of_ble_eq_true rfl) ⟨rfl, rfl⟩
        replace h := im c90 h
        by_cases c96 : q59.1 = 19
        · replace h := ip c96 h
          obtain ⟨q91, g92, h⟩ := ob h
          obtain ⟨v94, T95, e93, h⟩ := ob2 h
          refine jx_U (As := [.int p3]) hκ C (mt_k19_17_sees hκ G e93) ⟨q1412, q1333, q1373, q1337, q144, q1338, (Or.inl q1355), by decide, by decide⟩ (N := 1) (by decide +kernel) rfl g92 (by decide) rfl rfl dX0_act_75 (jfit.of (Nat.le_of_ble_eq_true rfl) (by decide) (Nat.le_of_ble_eq_true rfl) (Nat.le_of_ble_eq_true rfl) (Nat.le_of_ble_eq_true rfl)) rfl ?_
          refine j_goto C dX0_act_78 (tgt := 87) (by decide) ?_
          obtain ⟨rfl, rfl⟩ := sp2 h
          exact j_iret C dX0_act_87 (Nat.le_of_ble_eq_true rfl) (Nat.le_of_ble_eq_true rfl) ⟨rfl, rfl⟩
        replace h := im c96 h
        by_cases c102 : q59.1 = 20
        · replace h := ip c102 h
          obtain ⟨q97, g98, h⟩ := ob h
          obtain ⟨v100, T101, e99, h⟩ := ob2 h
          refine jx_U (As := [.int p3]) hκ C (mt_k20_14_sees hκ G e99) ⟨q1412, q1333, q1335, q1331, q141, q1345, (Or.inl q1355), by decide, by decide⟩ (N := 1) (by decide +kernel) rfl g98 (by decide) rfl rfl dX0_act_75 (jfit.of (Nat.le_of_ble_eq_true rfl) (by decide) (Nat.le_of_ble_eq_true rfl) (Nat.le_of_ble_eq_true rfl) (Nat.le_of_ble_eq_true rfl)) rfl ?_
          refine j_goto C dX0_act_78 (tgt := 87) (by decide) ?_
          obtain ⟨rfl, rfl⟩ := sp2 h
          exact j_iret C dX0_act_87 (Nat.le_of_ble_eq_true rfl) (Nat.le_of_ble_eq_true rfl) ⟨rfl, rfl⟩
        replace h := im c102 h
        by_cases c108 : q59.1 = 21
        · replace h := ip c108 h
          obtain ⟨q103, g104, h⟩ := ob h
          obtain ⟨v106, T107, e105, h⟩ := ob2 h
          refine jx_U (As := [.int p3]) hκ C (mt_k21_21_sees hκ G e105) ⟨q1412, q1333, q1349, q1350, q148, q1351, (Or.inl q1355), by decide, by decide⟩ (N := 1) (by decide +kernel) rfl g104 (by decide) rfl rfl dX0_act_75 (jfit.of (Nat.le_of_ble_eq_true rfl) (by decide) (Nat.le_of_ble_eq_true rfl) (Nat.le_of_ble_eq_true rfl) (Nat.le_of_ble_eq_true rfl)) rfl ?_
          refine j_goto C dX0_act_78 (tgt := 87) (by decide) ?_
          obtain ⟨rfl, rfl⟩ := sp2 h
          exact j_iret C dX0_act_87 (Nat.le_of_ble_eq_true rfl) (Nat.le_of_ble_eq_true rfl) ⟨rfl, rfl⟩
        replace h := im c108 h
        cases h
      replace h := ip c h
      refine j_aload C dX0_act_54 rfl ?_
      refine j_astore C dX0_act_56 (by decide) rfl ?_
      refine j_aload C dX0_act_58 rfl ?_
      refine j_iload_n C dX0_act_60 rfl rfl ?_
      obtain ⟨q109, g110, h⟩ := ob h
      by_cases c116 : q109.1 = 14
      · replace h := ip c116 h
        obtain ⟨q111, g112, h⟩ := ob h
        obtain ⟨v114, T115, e113, h⟩ := ob2 h
        refine jx_F (As := [.int p3]) hκ C (mt_k14_14_tells hκ G e113) (lw_F9 q1321 q1386 q1327 q141 q1329) (by decide) (N := 1) ⟨by decide, by decide, by decide +kernel⟩ rfl g112 (by decide) rfl rfl dX0_act_61 (jfit.of (Nat.le_of_ble_eq_true rfl) (by decide) (Nat.le_of_ble_eq_true rfl) (Nat.le_of_ble_eq_true rfl) (Nat.le_of_ble_eq_true rfl)) rfl ?_
        obtain ⟨rfl, rfl⟩ := sp2 h
        exact j_iret C dX0_act_66 (Nat.le_of_ble_eq_true rfl) (Nat.le_of_ble_eq_true rfl) ⟨rfl, rfl⟩
      replace h := im c116 h
      by_cases c122 : q109.1 = 15
      · replace h := ip c122 h
        obtain ⟨q117, g118, h⟩ := ob h
        obtain ⟨v120, T121, e119, h⟩ := ob2 h
        refine jx_F (As := [.int p3]) hκ C (mt_k15_14_tells hκ G e119) (lw_F9 q1321 q1325 q1327 q141 q1329) (by decide) (N := 1) ⟨by decide, by decide, by decide +kernel⟩ rfl g118 (by decide) rfl rfl dX0_act_61 (jfit.of (Nat.le_of_ble_eq_true rfl) (by decide) (Nat.le_of_ble_eq_true rfl) (Nat.le_of_ble_eq_true rfl) (Nat.le_of_ble_eq_true rfl)) rfl ?_
        obtain ⟨rfl, rfl⟩ := sp2 h
        exact j_iret C dX0_act_66 (Nat.le_of_ble_eq_true rfl) (Nat.le_of_ble_eq_true rfl) ⟨rfl, rfl⟩
      replace h := im c122 h
      by_cases c128 : q109.1 = 16
      · replace h := ip c128 h
        obtain ⟨q123, g124, h⟩ := ob h
        obtain ⟨v126, T127, e125, h⟩ := ob2 h
        refine jx_F (As := [.int p3]) hκ C (mt_k16_14_tells hκ G e125) (lw_F9 q1321 q1389 q1327 q141 q1329) (by decide) (N := 1) ⟨by decide, by decide, by decide +kernel⟩ rfl g124 (by decide) rfl rfl dX0_act_61 (jfit.of (Nat.le_of_ble_eq_true rfl) (by decide) (Nat.le_of_ble_eq_true rfl) (Nat.le_of_ble_eq_true rfl) (Nat.le_of_ble_eq_true rfl)) rfl ?_
        obtain ⟨rfl, rfl⟩ := sp2 h
        exact j_iret C dX0_act_66 (Nat.le_of_ble_eq_true rfl) (Nat.le_of_ble_eq_true rfl) ⟨rfl, rfl⟩
      replace h := im c128 h
      by_cases c134 : q109.1 = 17
      · replace h := ip c134 h
        obtain ⟨q129, g130, h⟩ := ob h
        obtain ⟨v132, T133, e131, h⟩ := ob2 h
        refine jx_F (As := [.int p3]) hκ C (mt_k17_14_tells hκ G e131) (lw_F9 q1321 q1383 q1327 q141 q1329) (by decide) (N := 1) ⟨by decide, by decide, by decide +kernel⟩ rfl g130 (by decide) rfl rfl dX0_act_61 (jfit.of (Nat.le_of_ble_eq_true rfl) (by decide) (Nat.le_of_ble_eq_true rfl) (Nat.le_of_ble_eq_true rfl) (Nat.le_of_ble_eq_true rfl)) rfl ?_
        obtain ⟨rfl, rfl⟩ := sp2 h
        exact j_iret C dX0_act_66 (Nat.le_of_ble_eq_true rfl) (Nat.le_of_ble_eq_true rfl) ⟨rfl, rfl⟩
      replace h := im c134 h
      by_cases c140 : q109.1 = 18
      · replace h := ip c140 h
        obtain ⟨q135, g136, h⟩ := ob h
        obtain ⟨v138, T139, e137, h⟩ := ob2 h
        refine jx_F (As := [.int p3]) hκ C (mt_k18_14_tells hκ G e137) (lw_F9 q1321 q1392 q1327 q141 q1329) (by decide) (N := 1) ⟨by decide, by decide, by decide +kernel⟩ rfl g136 (by decide) rfl rfl dX0_act_61 (jfit.of (Nat.le_of_ble_eq_true rfl) (by decide) (Nat.le_of_ble_eq_true rfl) (Nat.le_of_ble_eq_true rfl) (Nat.le_of_ble_eq_true rfl)) rfl ?_
        obtain ⟨rfl, rfl⟩ := sp2 h
        exact j_iret C dX0_act_66 (Nat.le_of_ble_eq_true rfl) (Nat.le_of_ble_eq_true rfl) ⟨rfl, rfl⟩
      replace h := im c140 h
      by_cases c146 : q109.1 = 19
      · replace h := ip c146 h
        obtain ⟨q141, g142, h⟩ := ob h
        obtain ⟨v144, T145, e143, h⟩ := ob2 h
        refine jx_F (As := [.int p3]) hκ C (mt_k19_19_tells hκ G e143) (lw_F9 q1321 q1404 q1406 q146 q1408) (by decide) (N := 1) ⟨by decide, by decide, by decide +kernel⟩ rfl g142 (by decide) rfl rfl dX0_act_61 (jfit.of (Nat.le_of_ble_eq_true rfl) (by decide) (Nat.le_of_ble_eq_true rfl) (Nat.le_of_ble_eq_true rfl) (Nat.le_of_ble_eq_true rfl)) rfl ?_
        obtain ⟨rfl, rfl⟩ := sp2 h
        exact j_iret C dX0_act_66 (Nat.le_of_ble_eq_true rfl) (Nat.le_of_ble_eq_true rfl) ⟨rfl, rfl⟩
      replace h := im c146 h
      by_cases c152 : q109.1 = 20
      · replace h := ip c152 h
        obtain ⟨q147, g148, h⟩ := ob h
        obtain ⟨v150, T151, e149, h⟩ := ob2 h
        refine jx_F (As := [.int p3]) hκ C (mt_k20_14_tells hκ G e149) (lw_F9 q1321 q1380 q1327 q141 q1329) (by decide) (N := 1) ⟨by decide, by decide, by decide +kernel⟩ rfl g148 (by decide) rfl rfl dX0_act_61 (jfit.of (Nat.le_of_ble_eq_true rfl) (by decide) (Nat.le_of_ble_eq_true rfl) (Nat.le_of_ble_eq_true rfl) (Nat.le_of_ble_eq_true rfl)) rfl ?_
        obtain ⟨rfl, rfl⟩ := sp2 h
        exact j_iret C dX0_act_66 (Nat.le_of_ble_eq_true rfl) (Nat.le_of_ble_eq_true rfl) ⟨rfl, rfl⟩
      replace h := im c152 h
      by_cases c158 : q109.1 = 21
      · replace h := ip c158 h
        obtain ⟨q153, g154, h⟩ := ob h
        obtain ⟨v156, T157, e155, h⟩ := ob2 h
        refine jx_F (As := [.int p3]) hκ C (mt_k21_21_tells hκ G e155) (lw_F9 q1321 q1395 q1397 q148 q1399) (by decide) (N := 1) ⟨by decide, by decide, by decide +kernel⟩ rfl g154 (by decide) rfl rfl dX0_act_61 (jfit.of (Nat.le_of_ble_eq_true rfl) (by decide) (Nat.le_of_ble_eq_true rfl) (Nat.le_of_ble_eq_true rfl) (Nat.le_of_ble_eq_true rfl)) rfl ?_
        obtain ⟨rfl, rfl⟩ := sp2 h
        exact j_iret C dX0_act_66 (Nat.le_of_ble_eq_true rfl) (Nat.le_of_ble_eq_true rfl) ⟨rfl, rfl⟩
      replace h := im c158 h
      cases h
    replace h := ip c h
    refine j_aload C dX0_act_36 rfl ?_
    refine j_astore C dX0_act_38 (by decide) rfl ?_
    refine j_aload C dX0_act_40 rfl ?_
    refine j_iload_n C dX0_act_42 rfl rfl ?_
    obtain ⟨q159, g160, h⟩ := ob h
    by_cases c166 : q159.1 = 14
    · replace h := ip c166 h
      obtain ⟨q161, g162, h⟩ := ob h
      obtain ⟨v164, T165, e163, h⟩ := ob2 h
      refine jx_F (As := [.int p3]) hκ C (mt_k14_14_turnsIn hκ G e163) (lw_F9 q1276 q1306 q1290 q141 q1291) (by decide) (N := 1) ⟨by decide, by decide, by decide +kernel⟩ rfl g162 (by decide) rfl rfl dX0_act_43 (jfit.of (Nat.le_of_ble_eq_true rfl) (by decide) (Nat.le_of_ble_eq_true rfl) (Nat.le_of_ble_eq_true rfl) (Nat.le_of_ble_eq_true rfl)) rfl ?_
      obtain ⟨rfl, rfl⟩ := sp2 h
      exact j_iret C dX0_act_48 (Nat.le_of_ble_eq_true rfl) (Nat.le_of_ble_eq_true rfl) ⟨rfl, rfl⟩
    replace h := im c166 h
    by_cases c172 : q159.1 = 15
    · replace h := ip c172 h
      obtain ⟨q167, g168, h⟩ := ob h
      obtain ⟨v170, T171, e169, h⟩ := ob2 h
      refine jx_F (As := [.int p3]) hκ C (mt_k15_15_turnsIn hκ G e169) (lw_F9 q1276 q1280 q1282 q142 q1284) (by decide) (N := 1) ⟨by decide, by decide, by decide +kernel⟩ rfl g168 (by decide) rfl rfl dX0_act_43 (jfit.of (Nat.le_of_ble_eq_true rfl) (by decide) (Nat.le_of_ble_eq_true rfl) (Nat.le_of_ble_eq_true rfl) (Nat.le_of_ble_eq_true rfl)) rfl ?_
      obtain ⟨rfl, rfl⟩ := sp2 h
      exact j_iret C dX0_act_48 (Nat.le_of_ble_eq_true rfl) (Nat.le_of_ble_eq_true rfl) ⟨rfl, rfl⟩
    replace h := im c172 h
    by_cases c178 : q159.1 = 16
    · replace h := ip c178 h
      obtain ⟨q173, g174, h⟩ := ob h
      obtain ⟨v176, T177, e175, h⟩ := ob2 h
      refine jx_F (As := [.int p3]) hκ C (mt_k16_14_turnsIn hκ G e175) (lw_F9 q1276 q1309 q1290 q141 q1291) (by decide) (N := 1) ⟨by decide, by decide, by decide +kernel⟩ rfl g174 (by decide) rfl rfl dX0_act_43 (jfit.of (Nat.le_of_ble_eq_true rfl) (by decide) (Nat.le_of_ble_eq_true rfl) (Nat.le_of_ble_eq_true rfl) (Nat.le_of_ble_eq_true rfl)) rfl ?_
      obtain ⟨rfl, rfl⟩ := sp2 h
      exact j_iret C dX0_act_48 (Nat.le_of_ble_eq_true rfl) (Nat.le_of_ble_eq_true rfl) ⟨rfl, rfl⟩
    replace h := im c178 h
    by_cases c184 : q159.1 = 17
    · replace h := ip c184 h
      obtain ⟨q179, g180, h⟩ := ob h
      obtain ⟨v182, T183, e181, h⟩ := ob2 h
      refine jx_F (As := [.int p3]) hκ C (mt_k17_14_turnsIn hκ G e181) (lw_F9 q1276 q1302 q1290 q141 q1291) (by decide) (N := 1) ⟨by decide, by decide, by decide +kernel⟩ rfl g180 (by decide) rfl rfl dX0_act_43 (jfit.of (Nat.le_of_ble_eq_true rfl) (by decide) (Nat.le_of_ble_eq_true rfl) (Nat.le_of_ble_eq_true rfl) (Nat.le_of_ble_eq_true rfl)) rfl ?_
      obtain ⟨rfl, rfl⟩ := sp2 h
      exact j_iret C dX0_act_48 (Nat.le_of_ble_eq_true rfl) (Nat.le_of_ble_eq_true rfl) ⟨rfl, rfl⟩
    replace h := im c184 h
    by_cases c190 : q159.1 = 18
    · replace h := ip c190 h
      obtain ⟨q185, g186, h⟩ := ob h
      obtain ⟨v188, T189, e187, h⟩ := ob2 h
      refine jx_F (As := [.int p3]) hκ C (mt_k18_15_turnsIn hκ G e187) (lw_F9 q1276 q1312 q1282 q142 q1284) (by decide) (N := 1) ⟨by decide, by decide, by decide +kernel⟩ rfl g186 (by decide) rfl rfl dX0_act_43 (jfit.of (Nat.le_of_ble_eq_true rfl) (by decide) (Nat.le_of_ble_eq_true rfl) (Nat.le_of_ble_eq_true rfl) (Nat.le_of_ble_eq_true rfl)) rfl ?_
      obtain ⟨rfl, rfl⟩ := sp2 h
      exact j_iret C dX0_act_48 (Nat.le_of_ble_eq_true rfl) (Nat.le_of_ble_eq_true rfl) ⟨rfl, rfl⟩
    replace h := im c190 h
    by_cases c196 : q159.1 = 19
    · replace h := ip c196 h
      obtain ⟨q191, g192, h⟩ := ob h
      obtain ⟨v194, T195, e193, h⟩ := ob2 h
      refine jx_F (As := [.int p3]) hκ C (mt_k19_14_turnsIn hκ G e193) (lw_F9 q1276 q1318 q1290 q141 q1291) (by decide) (N := 1) ⟨by decide, by decide, by decide +kernel⟩ rfl g192 (by decide) rfl rfl dX0_act_43 (jfit.of (Nat.le_of_ble_eq_true rfl) (by decide) (Nat.le_of_ble_eq_true rfl) (Nat.le_of_ble_eq_true rfl) (Nat.le_of_ble_eq_true rfl)) rfl ?_
      obtain ⟨rfl, rfl⟩ := sp2 h
      exact j_iret C dX0_act_48 (Nat.le_of_ble_eq_true rfl) (Nat.le_of_ble_eq_true rfl) ⟨rfl, rfl⟩
    replace h := im c196 h
    by_cases c202 : q159.1 = 20
    · replace h := ip c202 h
      obtain ⟨q197, g198, h⟩ := ob h
      obtain ⟨v200, T201, e199, h⟩ := ob2 h
      refine jx_F (As := [.int p3]) hκ C (mt_k20_20_turnsIn hκ G e199) (lw_F9 q1276 q1294 q1296 q147 q1298) (by decide) (N := 1) ⟨by decide, by decide, by decide +kernel⟩ rfl g198 (by decide) rfl rfl dX0_act_43 (jfit.of (Nat.le_of_ble_eq_true rfl) (by decide) (Nat.le_of_ble_eq_true rfl) (Nat.le_of_ble_eq_true rfl) (Nat.le_of_ble_eq_true rfl)) rfl ?_
      obtain ⟨rfl, rfl⟩ := sp2 h
      exact j_iret C dX0_act_48 (Nat.le_of_ble_eq_true rfl) (Nat.le_of_ble_eq_true rfl) ⟨rfl, rfl⟩
    replace h := im c202 h
    by_cases c208 : q159.1 = 21
    · replace h := ip c208 h
      obtain ⟨q203, g204, h⟩ := ob h
      obtain ⟨v206, T207, e205, h⟩ := ob2 h
      refine jx_F (As := [.int p3]) hκ C (mt_k21_15_turnsIn hκ G e205) (lw_F9 q1276 q1315 q1282 q142 q1284) (by decide) (N := 1) ⟨by decide, by decide, by decide +kernel⟩ rfl g204 (by decide) rfl rfl dX0_act_43 (jfit.of (Nat.le_of_ble_eq_true rfl) (by decide) (Nat.le_of_ble_eq_true rfl) (Nat.le_of_ble_eq_true rfl) (Nat.le_of_ble_eq_true rfl)) rfl ?_
      obtain ⟨rfl, rfl⟩ := sp2 h
      exact j_iret C dX0_act_48 (Nat.le_of_ble_eq_true rfl) (Nat.le_of_ble_eq_true rfl) ⟨rfl, rfl⟩
    replace h := im c208 h
    cases h
  replace h := ip c h
  refine j_iconst C (v := 0) dX0_act_22 rfl ?_
  obtain ⟨rfl, rfl⟩ := sp2 h
  exact j_iret C dX0_act_23 (Nat.le_of_ble_eq_true rfl) (Nat.le_of_ble_eq_true rfl) ⟨rfl, rfl⟩
/-! taken -/
def x_taken (T : XS) (p1 : Int32) (p2 : Int32) : Option Int32 :=
  (x_isShelf p1).bind fun v2 =>
  (if (b2i v2) = 0 then
  some (-1)
  else
  (x_in p2 0 7).bind fun v4 =>
  (if (b2i v4) = 0 then
  some (-1)
  else
  chk 6 p1 (
  onl (T.2.2.1 48 p1.toNatClampNeg) (
  some (-11)) fun a8 =>
  (T.2.2.2 a8).bind fun q10 =>
  (if q10.1 = 14 then
  (getO T a8 14).bind fun q12 =>
  (k14_14_isUnder T a8 p2).bind fun v15 =>
  (if (b2i v15) = 0 then
  some (-12)
  else
  (getO T a8 14).bind fun q16 =>
  (k14_14_kind T a8).bind fun v19 =>
  some v19)
  else if q10.1 = 15 then
  (getO T a8 15).bind fun q21 =>
  (k15_15_isUnder T a8 p2).bind fun v24 =>
  (if (b2i v24) = 0 then
  some (-12)
  else
  (getO T a8 15).bind fun q25 =>
  (k15_15_kind T a8).bind fun v28 =>
  some v28)
  else if q10.1 = 16 then
  (getO T a8 16).bind fun q30 =>
  (k16_16_isUnder T a8 p2).bind fun v33 =>
  (if (b2i v33) = 0 then
  some (-12)
  else
  (getO T a8 16).bind fun q34 =>
  (k16_16_kind T a8).bind fun v37 =>
  some v37)
  else if q10.1 = 17 then
  (getO T a8 17).bind fun q39 =>
  (k17_17_isUnder T a8 p2).bind fun v42 =>
  (if (b2i v42) = 0 then
  some (-12)
  else
  (getO T a8 17).bind fun q43 =>
  (k17_17_kind T a8).bind fun v46 =>
  some v46)
  else if q10.1 = 18 then
  (getO T a8 18).bind fun q48 =>
  (k18_18_isUnder T a8 p2).bind fun v51 =>
  (if (b2i v51) = 0 then
  some (-12)
  else
  (getO T a8 18).bind fun q52 =>
  (k18_18_kind T a8).bind fun v55 =>
  some v55)
  else if q10.1 = 19 then
  (getO T a8 19).bind fun q57 =>
  (k19_17_isUnder T a8 p2).bind fun v60 =>
  (if (b2i v60) = 0 then
  some (-12)
  else
  (getO T a8 19).bind fun q61 =>
  (k19_19_kind T a8).bind fun v64 =>
  some v64)
  else if q10.1 = 20 then
  (getO T a8 20).bind fun q66 =>
  (k20_14_isUnder T a8 p2).bind fun v69 =>
  (if (b2i v69) = 0 then
  some (-12)
  else
  (getO T a8 20).bind fun q70 =>
  (k20_20_kind T a8).bind fun v73 =>
  some v73)
  else if q10.1 = 21 then
  (getO T a8 21).bind fun q75 =>
  (k21_18_isUnder T a8 p2).bind fun v78 =>
  (if (b2i v78) = 0 then
  some (-12)
  else
  (getO T a8 21).bind fun q79 =>
  (k21_21_kind T a8).bind fun v82 =>
  some v82)
  else if q10.1 ∈ [23, 24, 25, 26, 27] then
  some (-12)
  else none))))
theorem mt_x_taken {κ : jK} (hκ : jX κ) (G : Nat → Nat) {T : XS} {p1 : Int32} {p2 : Int32} {v : Int32} (h : x_taken T p1 p2 = some v) : jM κ yX0_taken (wsW_ yX0_taken cX0_taken 4 (some .int) [((19 : Nat), (46 : Nat), (47 : Nat), (135 : Nat)), ((19 : Nat), (46 : Nat), (51 : Nat), (133 : Nat))]) 230 16 1024 [.ref (G 0), .int p1, .int p2] (wX κ G T) (fun u w' => u = some (.int v) ∧ w' = wX κ G T) := by
  rw [x_taken] at h
  refine jM.ofH (by decide) rfl (Nat.le_of_ble_eq_true rfl) fun Γ C ht => ?_
  show J κ Γ (230, 16, 1024, (fun u w' => u = some (.int v) ∧ w' = wX κ G T)) 4 (wX κ G T) 0 0 0 [some (.ref (G 0)), some (.int p1), some (.int p2), none] []
  refine j_iload_n C dX0_taken_0 rfl rfl ?_
  obtain ⟨v2, e1, h⟩ := ob h
  refine j_Si hκ.1.1 C (mt_x_isShelf hκ e1) hG_x_isShelf hy_x_isShelf rfl dX0_taken_1 (jfit.of (Nat.le_of_ble_eq_true rfl) (by decide) (Nat.le_of_ble_eq_true rfl) (Nat.le_of_ble_eq_true rfl) (Nat.le_of_ble_eq_true rfl)) rfl ?_
  refine j_if_eq C dX0_taken_4 (tgt := 17) (by decide) (fun c => ?_) (fun c => ?_)
  · replace h := ip c h
    refine j_iconst C (v := (-1)) dX0_taken_17 rfl ?_
    obtain rfl := sp1 h
    exact j_iret C dX0_taken_18 (Nat.le_of_ble_eq_true rfl) (Nat.le_of_ble_eq_true rfl) ⟨rfl, rfl⟩
  replace h := im c h
  refine j_iload_n C dX0_taken_7 rfl rfl ?_
  refine j_iconst C (v := 0) dX0_taken_8 rfl ?_
  refine j_bipush C (v := 7) dX0_taken_9 rfl ?_
  obtain ⟨v4, e3, h⟩ := ob h
  refine j_Si hκ.1.1 C (mt_x_in hκ e3) hG_x_in hy_x_in rfl dX0_taken_11 (jfit.of (Nat.le_of_ble_eq_true rfl) (by decide) (Nat.le_of_ble_eq_true rfl) (Nat.le_of_ble_eq_true rfl) (Nat.le_of_ble_eq_true rfl)) rfl ?_
  refine j_if_ne C dX0_taken_14 (tgt := 19) (by decide) (fun c => ?_) (fun c => ?_)
  · replace h := im c h
    refine j_aload_n C dX0_taken_19 rfl rfl ?_
    refine jx_geta hκ C 48 (by decide) rfl rfl q237 dX0_taken_20 ?_
    refine j_iload_n C dX0_taken_23 rfl rfl ?_
    obtain ⟨b5, h⟩ := chk_some h
    refine jx_aald hκ C 48 rfl rfl b5 dX0_taken_24 ?_
    rcases onl_some h with ⟨w9, h⟩ | ⟨a8, w9, h⟩
    · refine j_nul w9 ?_
      refine j_castN C dX0_taken_25 ?_
      refine j_astore_nN C dX0_taken_28 rfl (by decide) rfl ?_
      refine j_aload_nN C dX0_taken_29 rfl rfl ?_
      refine j_iload_n C dX0_taken_30 rfl rfl ?_
      refine j_nullX hκ C ht (As := [.int p2]) q1576 (Or.inl q1578) (Or.inr ⟨q1577, _, _, _, q1584⟩) ⟨by decide, by decide⟩ (by show _ = some 1; decide +kernel) dX0_taken_31 (jcat_mk [] (19, 46, 47, 135) [(19, 46, 51, 133)] "java/lang/NullPointerException" rfl trivial (by decide) (by decide) q465 q487 rfl) rfl (Nat.le_of_ble_eq_true rfl) (Nat.le_of_ble_eq_true rfl) (Nat.le_of_ble_eq_true rfl) (Nat.le_of_ble_eq_true rfl) (fun e => ?_)
      refine j_widen (k' := 1) (n' := 64) (by decide) (by decide) ?_
      refine j_astore_n C dX0_taken_47 rfl (by decide) rfl ?_
      refine j_bipush C (v := (-11)) dX0_taken_48 rfl ?_
      obtain rfl := sp1 h
      exact j_iret C dX0_taken_50 (Nat.le_of_ble_eq_true rfl) (Nat.le_of_ble_eq_true rfl) ⟨rfl, rfl⟩
    refine j_nn w9 ?_
    obtain ⟨q10, g11, h⟩ := ob h
    by_cases c20 : q10.1 = 14
    · replace h := ip c20 h
      refine jx_castY hκ C q183 (getO_eq g11 c20) (by decide) rfl rfl (Or.inr rfl) dX0_taken_25 ?_
      refine j_astore_n C dX0_taken_28 rfl (by decide) rfl ?_
      refine j_aload_n C dX0_taken_29 rfl rfl ?_
      refine j_iload_n C dX0_taken_30 rfl rfl ?_
      obtain ⟨q12, g13, h⟩ := ob h
      obtain ⟨v15, e14, h⟩ := ob h
      refine jx_U (As := [.int p2]) hκ C (mt_k14_14_isUnder hκ G e14) ⟨q1576, q1579, q1578, q1577, q141, q1584, (Or.inr ⟨q1577, _, _, _, q1584⟩), by decide, by decide⟩ (N := 1) (by decide +kernel) rfl g13 (by decide) rfl rfl dX0_taken_31 (jfit.of (Nat.le_of_ble_eq_true rfl) (by decide) (Nat.le_of_ble_eq_true rfl) (Nat.le_of_ble_eq_true rfl) (Nat.le_of_ble_eq_true rfl)) rfl ?_
      refine j_if_eq C dX0_taken_34 (tgt := 44) (by decide) (fun c => ?_) (fun c => ?_)
      · replace h := ip c h
        refine j_bipush C (v := (-12)) dX0_taken_44 rfl ?_
        obtain rfl := sp1 h
        exact j_iret C dX0_taken_46 (Nat.le_of_ble_eq_true rfl) (Nat.le_of_ble_eq_true rfl) ⟨rfl, rfl⟩
      replace h := im c h
      refine j_aload_n C dX0_taken_37 rfl rfl ?_
      obtain ⟨q16, g17, h⟩ := ob h
      obtain ⟨v19, e18, h⟩ := ob h
      refine jx_U (As := []) hκ C (mt_k14_14_kind hκ G e18) ⟨q1626, q1588, q1587, q1586, q141, q1610, (Or.inr ⟨q1586, _, _, _, q1610⟩), by decide, by decide⟩ (N := 0) (by decide +kernel) rfl g17 (by decide) rfl rfl dX0_taken_38 (jfit.of (Nat.le_of_ble_eq_true rfl) (by decide) (Nat.le_of_ble_eq_true rfl) (Nat.le_of_ble_eq_true rfl) (Nat.le_of_ble_eq_true rfl)) rfl ?_
      refine j_goto C dX0_taken_41 (tgt := 46) (by decide) ?_
      obtain rfl := sp1 h
      exact j_iret C dX0_taken_46 (Nat.le_of_ble_eq_true rfl) (Nat.le_of_ble_eq_true rfl) ⟨rfl, rfl⟩
    replace h := im c20 h
    by_cases c29 : q10.1 = 15
    · replace h := ip c29 h
      refine jx_castY hκ C q183 (getO_eq g11 c29) (by decide) rfl rfl (Or.inl q2259) dX0_taken_25 ?_
      refine j_astore_n C dX0_taken_28 rfl (by decide) rfl ?_
      refine j_aload_n C dX0_taken_29 rfl rfl ?_
      refine j_iload_n C dX0_taken_30 rfl rfl ?_
      obtain ⟨q21, g22, h⟩ := ob h
      obtain ⟨v24, e23, h⟩ := ob h
      refine jx_U (As := [.int p2]) hκ C (mt_k15_15_isUnder hκ G e23) ⟨q1576, q1579, q1580, q1581, q142, q1582, (Or.inr ⟨q1577, _, _, _, q1584⟩), by decide, by decide⟩ (N := 1) (by decide +kernel) rfl g22 (by decide) rfl rfl dX0_taken_31 (jfit.of (Nat.le_of_ble_eq_true rfl) (by decide) (Nat.le_of_ble_eq_true rfl) (Nat.le_of_ble_eq_true rfl) (Nat.le_of_ble_eq_true rfl)) rfl ?_
      refine j_if_eq C dX0_taken_34 (tgt := 44) (by decide) (fun c => ?_) (fun c => ?_)
      · replace h := ip c h
        refine j_bipush C (v := (-12)) dX0_taken_44 rfl ?_
        obtain rfl := sp1 h
        exact j_iret C dX0_taken_46 (Nat.le_of_ble_eq_true rfl) (Nat.le_of_ble_eq_true rfl) ⟨rfl, rfl⟩
      replace h := im c h
      refine j_aload_n C dX0_taken_37 rfl rfl ?_
      obtain ⟨q25, g26, h⟩ := ob h
      obtain ⟨v28, e27, h⟩ := ob h
      refine jx_U (As := []) hκ C (mt_k15_15_kind hκ G e27) ⟨q1626, q1588, q1589, q1590, q142, q1591, (Or.inr ⟨q1586, _, _, _, q1610⟩), by decide, by decide⟩ (N := 0) (by decide +kernel) rfl g26 (by decide) rfl rfl dX0_taken_38 (jfit.of (Nat.le_of_ble_eq_true rfl) (by decide) (Nat.le_of_ble_eq_true rfl) (Nat.le_of_ble_eq_true rfl) (Nat.le_of_ble_eq_true rfl)) rfl ?_
      refine j_goto C dX0_taken_41 (tgt := 46) (by decide) ?_
      obtain rfl := sp1 h
      exact j_iret C dX0_taken_46 (Nat.le_of_ble_eq_true rfl) (Nat.le_of_ble_eq_true rfl) ⟨rfl, rfl⟩
    replace h := im c29 h
    by_cases c38 : q10.1 = 16
    · replace h := ip c38 h
      refine jx_castY hκ C q183 (getO_eq g11 c38) (by decide) rfl rfl (Or.inl q2262) dX0_taken_25 ?_
      refine j_astore_n C dX0_taken_28 rfl (by decide) rfl ?_
      refine j_aload_n C dX0_taken_29 rfl rfl ?_
      refine j_iload_n C dX0_taken_30 rfl rfl ?_
      obtain ⟨q30, g31, h⟩ := ob h
      obtain ⟨v33, e32, h⟩ := ob h
      refine jx_U (As := [.int p2]) hκ C (mt_k16_16_isUnder hκ G e32) ⟨q1576, q1579, q1619, q1616, q143, q1617, (Or.inr ⟨q1577, _, _, _, q1584⟩), by decide, by decide⟩ (N := 1) (by decide +kernel) rfl g31 (by decide) rfl rfl dX0_taken_31 (jfit.of (Nat.le_of_ble_eq_true rfl) (by decide) (Nat.le_of_ble_eq_true rfl) (Nat.le_of_ble_eq_true rfl) (Nat.le_of_ble_eq_true rfl)) rfl ?_
      refine j_if_eq C dX0_taken_34 (tgt := 44) (by decide) (fun c => ?_) (fun c => ?_)
      · replace h := ip c h
        refine j_bipush C (v := (-12)) dX0_taken_44 rfl ?_
        obtain rfl := sp1 h
        exact j_iret C dX0_taken_46 (Nat.le_of_ble_eq_true rfl) (Nat.le_of_ble_eq_true rfl) ⟨rfl, rfl⟩
      replace h := im c h
      refine j_aload_n C dX0_taken_37 rfl rfl ?_
      obtain ⟨q34, g35, h⟩ := ob h
      obtain ⟨v37, e36, h⟩ := ob h
      refine jx_U (As := []) hκ C (mt_k16_16_kind hκ G e36) ⟨q1626, q1588, q1598, q1599, q143, q1600, (Or.inr ⟨q1586, _, _, _, q1610⟩), by decide, by decide⟩ (N := 0) (by decide +kernel) rfl g35 (by decide) rfl rfl dX0_taken_38 (jfit.of (Nat.le_of_ble_eq_true rfl) (by decide) (Nat.le_of_ble_eq_true rfl) (Nat.le_of_ble_eq_true rfl) (Nat.le_of_ble_eq_true rfl)) rfl ?_
      refine j_goto C dX0_taken_41 (tgt := 46) (by decide) ?_
      obtain rfl := sp1 h
      exact j_iret C dX0_taken_46 (Nat.le_of_ble_eq_true rfl) (Nat.le_of_ble_eq_true rfl) ⟨rfl, rfl⟩
    replace h := im c38 h
    by_cases c47 : q10.1 = 17
    · replace h := ip c47 h
      refine jx_castY hκ C q183 (getO_eq g11 c47) (by decide) rfl rfl (Or.inl q2261) dX0_taken_25 ?_
      refine j_astore_n C dX0_taken_28 rfl (by decide) rfl ?_
      refine j_aload_n C dX0_taken_29 rfl rfl ?_
      refine j_iload_n C dX0_taken_30 rfl rfl ?_
      obtain ⟨q39, g40, h⟩ := ob h
      obtain ⟨v42, e41, h⟩ := ob h
      refine jx_U (As := [.int p2]) hκ C (mt_k17_17_isUnder hκ G e41) ⟨q1576, q1579, q1612, q1613, q144, q1614, (Or.inr ⟨q1577, _, _, _, q1584⟩), by decide, by decide⟩ (N := 1) (by decide +kernel) rfl g40 (by decide) rfl rfl dX0_taken_31 (jfit.of (Nat.le_of_ble_eq_true rfl) (by decide) (Nat.le_of_ble_eq_true rfl) (Nat.le_of_ble_eq_true rfl) (Nat.le_of_ble_eq_true rfl)) rfl ?_
      refine j_if_eq C dX0_taken_34 (tgt := 44) (by decide) (fun c => ?_) (fun c => ?_)
      · replace h := ip c h
        refine j_bipush C (v := (-12)) dX0_taken_44 rfl ?_
        obtain rfl := sp1 h
        exact j_iret C dX0_taken_46 (Nat.le_of_ble_eq_true rfl) (Nat.le_of_ble_eq_true rfl) ⟨rfl, rfl⟩
      replace h := im c h
      refine j_aload_n C dX0_taken_37 rfl rfl ?_
      obtain ⟨q43, g44, h⟩ := ob h
      obtain ⟨v46, e45, h⟩ := ob h
      refine jx_U (As := []) hκ C (mt_k17_17_kind hκ G e45) ⟨q1626, q1588, q1595, q1596, q144, q1597, (Or.inr ⟨q1586, _, _, _, q1610⟩), by decide, by decide⟩ (N := 0) (by decide +kernel) rfl g44 (by decide) rfl rfl dX0_taken_38 (jfit.of (Nat.le_of_ble_eq_true rfl) (by decide) (Nat.le_of_ble_eq_true rfl) (Nat.le_of_ble_eq_true rfl) (Nat.le_of_ble_eq_true rfl)) rfl ?_
      refine j_goto C dX0_taken_41 (tgt := 46) (by decide) ?_
      obtain rfl := sp1 h
      exact j_iret C dX0_taken_46 (Nat.le_of_ble_eq_true rfl) (Nat.le_of_ble_eq_true rfl) ⟨rfl, rfl⟩
    replace h := im c47 h
    by_cases c56 : q10.1 = 18
    · replace h := ip c56 h
      refine jx_castY hκ C q183 (getO_eq g11 c56) (by decide) rfl rfl (Or.inl q2263) dX0_taken_25 ?_
      refine j_astore_n C dX0_taken_28 rfl (by decide) rfl ?_
      refine j_aload_n C dX0_taken_29 rfl rfl ?_
      refine j_iload_n C dX0_taken_30 rfl rfl ?_
      obtain ⟨q48, g49, h⟩ := ob h
      obtain ⟨v51, e50, h⟩ := ob h
      refine jx_U (As := [.int p2]) hκ C (mt_k18_18_isUnder hκ G e50) ⟨q1576, q1579, q1620, q1621, q145, q1622, (Or.inr ⟨q1577, _, _, _, q1584⟩), by decide, by decide⟩ (N := 1) (by decide +kernel) rfl g49 (by decide) rfl rfl dX0_taken_31 (jfit.of (Nat.le_of_ble_eq_true rfl) (by decide) (Nat.le_of_ble_eq_true rfl) (Nat.le_of_ble_eq_true rfl) (Nat.le_of_ble_eq_true rfl)) rfl ?_
      refine j_if_eq C dX0_taken_34 (tgt := 44) (by decide) (fun c => ?_) (fun c => ?_)
      · replace h := ip c h
        refine j_bipush C (v := (-12)) dX0_taken_44 rfl ?_
        obtain rfl := sp1 h
        exact j_iret C dX0_taken_46 (Nat.le_of_ble_eq_true rfl) (Nat.le_of_ble_eq_true rfl) ⟨rfl, rfl⟩
      replace h := im c h
      refine j_aload_n C dX0_taken_37 rfl rfl ?_
      obtain ⟨q52, g53, h⟩ := ob h
      obtain ⟨v55, e54, h⟩ := ob h
      refine jx_U (As := []) hκ C (mt_k18_18_kind hκ G e54) ⟨q1626, q1588, q1601, q1602, q145, q1603, (Or.inr ⟨q1586, _, _, _, q1610⟩), by decide, by decide⟩ (N := 0) (by decide +kernel) rfl g53 (by decide) rfl rfl dX0_taken_38 (jfit.of (Nat.le_of_ble_eq_true rfl) (by decide) (Nat.le_of_ble_eq_true rfl) (Nat.le_of_ble_eq_true rfl) (Nat.le_of_ble_eq_true rfl)) rfl ?_
      refine j_goto C dX0_taken_41 (tgt := 46) (by decide) ?_
      obtain rfl := sp1 h
      exact j_iret C dX0_taken_46 (Nat.le_of_ble_eq_true rfl) (Nat.le_of_ble_eq_true rfl) ⟨rfl, rfl⟩
    replace h := im c56 h
    by_cases c65 : q10.1 = 19
    · replace h := ip c65 h
      refine jx_castY hκ C q183 (getO_eq g11 c65) (by decide) rfl rfl (Or.inl q2265) dX0_taken_25 ?_
      refine j_astore_n C dX0_taken_28 rfl (by decide) rfl ?_
      refine j_aload_n C dX0_taken_29 rfl rfl ?_
      refine j_iload_n C dX0_taken_30 rfl rfl ?_
      obtain ⟨q57, g58, h⟩ := ob h
      obtain ⟨v60, e59, h⟩ := ob h
      refine jx_U (As := [.int p2]) hκ C (mt_k19_17_isUnder hκ G e59) ⟨q1576, q1579, q1625, q1613, q144, q1614, (Or.inr ⟨q1577, _, _, _, q1584⟩), by decide, by decide⟩ (N := 1) (by decide +kernel) rfl g58 (by decide) rfl rfl dX0_taken_31 (jfit.of (Nat.le_of_ble_eq_true rfl) (by decide) (Nat.le_of_ble_eq_true rfl) (Nat.le_of_ble_eq_true rfl) (Nat.le_of_ble_eq_true rfl)) rfl ?_
      refine j_if_eq C dX0_taken_34 (tgt := 44) (by decide) (fun c => ?_) (fun c => ?_)
      · replace h := ip c h
        refine j_bipush C (v := (-12)) dX0_taken_44 rfl ?_
        obtain rfl := sp1 h
        exact j_iret C dX0_taken_46 (Nat.le_of_ble_eq_true rfl) (Nat.le_of_ble_eq_true rfl) ⟨rfl, rfl⟩
      replace h := im c h
      refine j_aload_n C dX0_taken_37 rfl rfl ?_
      obtain ⟨q61, g62, h⟩ := ob h
      obtain ⟨v64, e63, h⟩ := ob h
      refine jx_U (As := []) hκ C (mt_k19_19_kind hκ G e63) ⟨q1626, q1588, q1607, q1608, q146, q1609, (Or.inr ⟨q1586, _, _, _, q1610⟩), by decide, by decide⟩ (N := 0) (by decide +kernel) rfl g62 (by decide) rfl rfl dX0_taken_38 (jfit.of (Nat.le_of_ble_eq_true rfl) (by decide) (Nat.le_of_ble_eq_true rfl) (Nat.le_of_ble_eq_true rfl) (Nat.le_of_ble_eq_true rfl)) rfl ?_
      refine j_goto C dX0_taken_41 (tgt := 46) (by decide) ?_
      obtain rfl := sp1 h
      exact j_iret C dX0_taken_46 (Nat.le_of_ble_eq_true rfl) (Nat.le_of_ble_eq_true rfl) ⟨rfl, rfl⟩
    replace h := im c65 h
    by_cases c74 : q10.1 = 20
    · replace h := ip c74 h
      refine jx_castY hκ C q183 (getO_eq g11 c74) (by decide) rfl rfl (Or.inl q2260) dX0_taken_25 ?_
      refine j_astore_n C dX0_taken_28 rfl (by decide) rfl ?_
      refine j_aload_n C dX0_taken_29 rfl rfl ?_
      refine j_iload_n C dX0_taken_30 rfl rfl ?_
      obtain ⟨q66, g67, h⟩ := ob h
      obtain ⟨v69, e68, h⟩ := ob h
      refine jx_U (As := [.int p2]) hκ C (mt_k20_14_isUnder hκ G e68) ⟨q1576, q1579, q1611, q1577, q141, q1584, (Or.inr ⟨q1577, _, _, _, q1584⟩), by decide, by decide⟩ (N := 1) (by decide +kernel) rfl g67 (by decide) rfl rfl dX0_taken_31 (jfit.of (Nat.le_of_ble_eq_true rfl) (by decide) (Nat.le_of_ble_eq_true rfl) (Nat.le_of_ble_eq_true rfl) (Nat.le_of_ble_eq_true rfl)) rfl ?_
      refine j_if_eq C dX0_taken_34 (tgt := 44) (by decide) (fun c => ?_) (fun c => ?_)
      · replace h := ip c h
        refine j_bipush C (v := (-12)) dX0_taken_44 rfl ?_
        obtain rfl := sp1 h
        exact j_iret C dX0_taken_46 (Nat.le_of_ble_eq_true rfl) (Nat.le_of_ble_eq_true rfl) ⟨rfl, rfl⟩
      replace h := im c h
      refine j_aload_n C dX0_taken_37 rfl rfl ?_
      obtain ⟨q70, g71, h⟩ := ob h
      obtain ⟨v73, e72, h⟩ := ob h
      refine jx_U (As := []) hκ C (mt_k20_20_kind hκ G e72) ⟨q1626, q1588, q1592, q1593, q147, q1594, (Or.inr ⟨q1586, _, _, _, q1610⟩), by decide, by decide⟩ (N := 0) (by decide +kernel) rfl g71 (by decide) rfl rfl dX0_taken_38 (jfit.of (Nat.le_of_ble_eq_true rfl) (by decide) (Nat.le_of_ble_eq_true rfl) (Nat.le_of_ble_eq_true rfl) (Nat.le_of_ble_eq_true rfl)) rfl ?_
      refine j_goto C dX0_taken_41 (tgt := 46) (by decide) ?_
      obtain rfl := sp1 h
      exact j_iret C dX0_taken_46 (Nat.le_of_ble_eq_true rfl) (Nat.le_of_ble_eq_true rfl) ⟨rfl, rfl⟩
    replace h := im c74 h
    by_cases c83 : q10.1 = 21
    · replace h := ip c83 h
      refine jx_castY hκ C q183 (getO_eq g11 c83) (by decide) rfl rfl (Or.inl q2264) dX0_taken_25 ?_
      refine j_astore_n C dX0_taken_28 rfl (by decide) rfl ?_
      refine j_aload_n C dX0_taken_29 rfl rfl ?_
      refine j_iload_n C dX0_taken_30 rfl rfl ?_
      obtain ⟨q75, g76, h⟩ := ob h
      obtain ⟨v78, e77, h⟩ := ob h
      refine jx_U (As := [.int p2]) hκ C (mt_k21_18_isUnder hκ G e77) ⟨q1576, q1579, q1624, q1621, q145, q1622, (Or.inr ⟨q1577, _, _, _, q1584⟩), by decide, by decide⟩ (N := 1) (by decide +kernel) rfl g76 (by decide) rfl rfl dX0_taken_31 (jfit.of (Nat.le_of_ble_eq_true rfl) (by decide) (Nat.le_of_ble_eq_true rfl) (Nat.le_of_ble_eq_true rfl) (Nat.le_of_ble_eq_true rfl)) rfl ?_
      refine j_if_eq C dX0_taken_34 (tgt := 44) (by decide) (fun c => ?_) (fun c => ?_)
      · replace h := ip c h
        refine j_bipush C (v := (-12)) dX0_taken_44 rfl ?_
        obtain rfl := sp1 h
        exact j_iret C dX0_taken_46 (Nat.le_of_ble_eq_true rfl) (Nat.le_of_ble_eq_true rfl) ⟨rfl, rfl⟩
      replace h := im c h
      refine j_aload_n C dX0_taken_37 rfl rfl ?_
      obtain ⟨q79, g80, h⟩ := ob h
      obtain ⟨v82, e81, h⟩ := ob h
      refine jx_U (As := []) hκ C (mt_k21_21_kind hκ G e81) ⟨q1626, q1588, q1604, q1605, q148, q1606, (Or.inr ⟨q1586, _, _, _, q1610⟩), by decide, by decide⟩ (N := 0) (by decide +kernel) rfl g80 (by decide) rfl rfl dX0_taken_38 (jfit.of (Nat.le_of_ble_eq_true rfl) (by decide) (Nat.le_of_ble_eq_true rfl) (Nat.le_of_ble_eq_true rfl) (Nat.le_of_ble_eq_true rfl)) rfl ?_
      refine j_goto C dX0_taken_41 (tgt := 46) (by decide) ?_
      obtain rfl := sp1 h
      exact j_iret C dX0_taken_46 (Nat.le_of_ble_eq_true rfl) (Nat.le_of_ble_eq_true rfl) ⟨rfl, rfl⟩
    replace h := im c83 h
    by_cases c84 : q10.1 ∈ [23, 24, 25, 26, 27]
    · replace h := ip c84 h
      refine jx_castX hκ C ht q183 g11 c84 jbad_Key dX0_taken_25 (jcat_mk [(19, 46, 47, 135)] (19, 46, 51, 133) [] "java/lang/ClassCastException" rfl ⟨Or.inr ⟨by decide, "java/lang/NullPointerException", q465, by decide⟩, trivial⟩ (by decide) (by decide) q381 q443 rfl) (Nat.le_of_ble_eq_true rfl) (Nat.le_of_ble_eq_true rfl) (Nat.le_of_ble_eq_true rfl) (Nat.le_of_ble_eq_true rfl) (fun e => ?_)
      refine j_widen (k' := 16) (n' := 1024) (by decide) (by decide) ?_
      refine j_astore_n C dX0_taken_51 rfl (by decide) rfl ?_
      refine j_bipush C (v := (-12)) dX0_taken_52 rfl ?_
      obtain rfl := sp1 h
      exact j_iret C dX0_taken_54 (Nat.le_of_ble_eq_true rfl) (Nat.le_of_ble_eq_true rfl) ⟨rfl, rfl⟩
    replace h := im c84 h
    cases h
  replace h := ip c h
  refine j_iconst C (v := (-1)) dX0_taken_17 rfl ?_
  obtain rfl := sp1 h
  exact j_iret C dX0_taken_18 (Nat.le_of_ble_eq_true rfl) (Nat.le_of_ble_eq_true rfl) ⟨rfl, rfl⟩
