/-! ROWS MADE: newRow, row. Own text, printed by nr.py. -/
set_option maxRecDepth 100000

theorem nas_text (i : Int32) : (toString i == notModelled) = false ∧ (stringBytes (stringToUtf16 (toString i))).size ≤ 990 := by
  have h := int32_print i
  constructor
  · rw [beq_eq_false_iff_ne]
    intro e
    rw [e] at h
    revert h
    decide
  · have b1 := stringBytes_size_le (stringToUtf16 (toString i))
    have b2 := utf16_size_le (toString i)
    omega
theorem wX_none {κ : jK} {G : Nat → Nat} {S : XS} {q : Nat} (h : S.2.2.2 q = none) : wX κ G S (100 + q) = none := by
  unfold wX
  rw [if_neg (by omega), if_neg (by omega), if_neg (by omega), show 100 + q - 100 = q by omega, h]
  rfl
theorem wX_up {κ : jK} {G : Nat → Nat} {S : XS} {q : Nat} (h : S.2.2.2 q = none) (t r : Nat) (x : Nat × va_E) (hr : wX κ G S r = some x) : wX κ G (xO S q (rawO t)) r = some x := by
  rw [wX_raw]
  unfold jset
  rw [if_neg, hr]
  intro e
  rw [e, wX_none h] at hr
  cases hr
section WB
variable {κ : jK} {w : jW} {k n pc : Nat} {st : List Value} {cc : ByteArray} {own : String} {ret : Option FieldType} {nL : Nat}
theorem w_new {p : Program} {e : Env} {s : State} {m : MethodId} {args : Array Value} {below : List Frame} {meth : Method} {c : Code} {A : Nat → Prop} {R : Room} {H : Heap} {locs : List Loc} {ls : Array Slot} {Qg : State → Prop} (C : jC κ (p, e, s, m, args, below, meth, c, A) cc nL own ret) {C' : String} {T : u_T} {N ci index : Nat} (hin : ∀ w ∈ u_ws C' T N, w ∈ lw_all) (ty : Nat → FieldType) (hty : ∀ k, k < N → parseFieldDescriptor (T k).2.2.1 = some (ty k)) (hcl : Cond.classLink own index C' ∈ lw_all) (hinst : Cond.instantiable C' N ∈ lw_all) (hini : Cond.initialized C' ∈ lw_all) (hc : κ.2.2.1[ci]? = some (C', T, N)) {fs : List Value} (hfs : ∀ j, j < N → defaultValue (ty j) = vp_V fs j) (hk : k + 1 ≤ R.cells) (hn : n + N ≤ R.slots) (ρ : Nat → Nat) (hd : decode cc pc = .ok (.new index, 3))
    (hP : jP κ.2.1 κ.2.2.1 w H) (hD : jD A w) (hS : va_S A s.heap H locs)
    (h : ∀ (q : Nat) (H1 : Heap), (∀ (r : Nat) (x : Nat × va_E), w r = some x → x.1 ≠ q) → jP κ.2.1 κ.2.2.1 (jset w (ρ q) (q, .inr (ci, fs))) H1 → jD A (jset w (ρ q) (q, .inr (ci, fs))) → va_S A s.heap H1 locs → W p κ.1 e R s m args below meth c H1 locs (k + 1) (n + N) Qg (F0 m (pc + 3) ls (.ref q :: st))) : W p κ.1 e R s m args below meth c H locs k n Qg (F0 m pc ls st) := by
  obtain ⟨hx, hb, hml, hown, hts, hA, hK, -⟩ := C
  have hKn := hK.1 ci _ hc
  refine W.newcK hx hb hown (hts _ hcl) (hts _ hinst) (hts _ hini) rfl hd hk hn hKn.2.1 rfl fun H1 kC hkC e1 z1 o1 => ?_
  exact h H.size H1 (fun r x hr he => by have := (hP r x hr).lt; omega) (hP.push rfl ⟨_, hc, (u_born ty hts hin hKn hkC e1 hty).to hfs⟩ o1) (hD.push hP rfl (hA _ hS.1)) ⟨Nat.le_trans hS.1 (by omega), fun x h1 h2 => (o1 x (Nat.lt_of_lt_of_le h1 hS.1)).trans (hS.2.1 x h1 h2), hS.2.2⟩
theorem w_back {p : Program} {e : Env} {s : State} {m : MethodId} {args : Array Value} {below : List Frame} {meth : Method} {c : Code} {A : Nat → Prop} {R : Room} {H : Heap} {locs : List Loc} {ls : Array Slot} {mc ms : Nat} {st0 : List Value} {a : Array Value} {post : Option Value → jW → Prop} {Qg : State → Prop} (hA : ∀ q, s.heap.size ≤ q → A q) (hD : jD A w) (hS : va_S A s.heap H locs)
    (hr : va_Run p κ.1 e R s m args below meth c H locs k n mc ms (F0 m pc ls st0) st (jQ κ post (jA w H.size) a) (jA w H.size))
    (h : ∀ (v : Option Value) (w' : jW) (H' : Heap) (locs' : List Loc), post v w' → jP κ.2.1 κ.2.2.1 w' H' → jD A w' → va_S A s.heap H' locs' → W p κ.1 e R s m args below meth c H' locs' (k + mc) (n + ms) Qg (F0 m (pc + 3) ls (v.toList ++ st))) : W p κ.1 e R s m args below meth c H locs k n Qg (F0 m pc ls st0) := by
  have hf := jA_sub hA hD hS
  intro T hT X
  obtain ⟨v, st₀, t, T', L', h0, X', hL, e1, e2, ⟨⟨v', w', hv, hp, hP1, hD1⟩, hF⟩, stp⟩ := hr T hT X
  cases hv
  obtain ⟨-, -, k3⟩ := vx_keep h0 e1 hS (fun q _ h => hf q h) hf hL hF
  obtain ⟨t2, a1, b1⟩ := h v w' T'.heap (locs ++ L') hp (by rw [e1]; exact hP1) (hD1.weaken hf) k3 T' rfl X'
  exact ⟨t2, stp t2 a1, b1⟩
theorem w_backX {p : Program} {e : Env} {s : State} {m : MethodId} {args : Array Value} {below : List Frame} {meth : Method} {c : Code} {A : Nat → Prop} {R : Room} {H : Heap} {locs : List Loc} {ls : Array Slot} {mc ms : Nat} {st0 : List Value} {a : Array Value} {post : Option Value → jW → Prop} {E : String} {Qg : State → Prop} (hA : ∀ q, s.heap.size ≤ q → A q) (hD : jD A w) (hS : va_S A s.heap H locs)
    (hr : vx_Run p κ.1 e R s m args below meth c H locs k n mc ms (F0 m pc ls st0) st (jQ κ post (jA w H.size) a) (jXC κ w E (jA w H.size)) (jA w H.size))
    (h : ∀ (v : Option Value) (w' : jW) (H' : Heap) (locs' : List Loc), post v w' → jP κ.2.1 κ.2.2.1 w' H' → jD A w' → va_S A s.heap H' locs' → W p κ.1 e R s m args below meth c H' locs' (k + mc) (n + ms) Qg (F0 m (pc + 3) ls (v.toList ++ st)))
    (hX : ∀ (q : Addr) (ce : Cell) (H' : Heap) (locs' : List Loc), jP κ.2.1 κ.2.2.1 w H' → jD A w → va_S A s.heap H' locs' → H'[q]? = some ce → ce.vm = .none → s.vm.findClass E = some ce.cls → vx_W p κ.1 e R s m args below meth c H' locs' (k + mc) (n + ms) Qg (F0 m pc ls st) q) : W p κ.1 e R s m args below meth c H locs k n Qg (F0 m pc ls st0) := by
  have hf := jA_sub hA hD hS
  intro T hT X
  rcases hr T hT X with ⟨v, st₀, t, T', L', h0, X', hL, e1, e2, ⟨⟨v', w', hv, hp, hP1, hD1⟩, hF⟩, stp⟩ | ⟨q, st₀, t, T', L', E', ce, h0, X', hL, e1, e2, ⟨hE, hP1, hD1, hF⟩, hce, hcv, hcl, stp⟩
  · cases hv
    obtain ⟨-, -, k3⟩ := vx_keep h0 e1 hS (fun q _ h => hf q h) hf hL hF
    obtain ⟨t2, a1, b1⟩ := h v w' T'.heap (locs ++ L') hp (by rw [e1]; exact hP1) (hD1.weaken hf) k3 T' rfl X'
    exact ⟨t2, stp t2 a1, b1⟩
  · subst hE
    obtain ⟨-, -, k3⟩ := vx_keep h0 e1 hS (fun q _ h => hf q h) hf hL hF
    obtain ⟨t2, a1, b1⟩ := hX q ce T'.heap (locs ++ L') (by rw [e1]; exact hP1) (hD1.weaken hf) k3 (by rw [e1]; exact hce) hcv hcl T' rfl X'
    exact ⟨t2, stp.trans a1, b1⟩
end WB

theorem mt_nX23 {κ : jK} (hκ : jX κ) (G : Nat → Nat) (T : XS) (q : Nat) {p1 : Int32} (h0 : p1 < 0) : jXM κ yX23_init (ws_ yX23_init cX23_init 2 none) 220 3 1000 [.ref q, .int p1] (wX κ G (xO T q (rawO 23))) (fun _ _ => False) "java/lang/NegativeArraySizeException" := by
  refine jXM.ofB (by decide) rfl (Nat.le_of_ble_eq_true rfl) fun p e s m args below meth c A ls C hnm hno hP hD hl => ?_
  have hl : jL ls 2 [some (.ref q), some (.int p1)] := hl
  have C0 := C
  have hpre := j_pre hκ.1.1 C hP hD va_S.rf [.ref q]
  obtain ⟨hx, hb, hml, hown, hts, hA, hK, hX, -⟩ := C
  refine lv_aload_n hx hb dX23_init_0 rfl (hl.at (i := 0) rfl) ?_
  refine w_back hA hD va_S.rf (va_runIN (As := []) (b := q) (rest := []) ⟨hx, hb, hml, hown, hts⟩ (mt_iN22 hκ (wX κ G (xO T q (rawO 23))) q s.heap.size) ⟨va_cnB 0 hts (lw_meth q1449) rfl rfl rfl ((hκ.2 s hX).1 _ q1447 rfl) (hts _ q150) ⟨by decide, by decide, by decide +kernel⟩ ⟨Nat.le_of_ble_eq_true rfl, Nat.le_of_ble_eq_true rfl⟩, rfl, hts _ q1448⟩ hpre rfl rfl hl.1 rfl (lv_room (Nat.le_of_ble_eq_true rfl)) dX23_init_1 ⟨Nat.le_of_ble_eq_true rfl, Nat.le_of_ble_eq_true rfl⟩) (fun u w1 H1 locs1 hp hP1 hD1 hS1 => ?_)
  obtain ⟨rfl, rfl⟩ := hp
  refine lv_aload_n hx hb dX23_init_4 rfl (hl.at (i := 0) rfl) ?_
  refine lv_iload_n hx hb dX23_init_5 rfl (hl.at (i := 1) rfl) ?_
  refine vx_newarrayZ hx hb h0 dX23_init_6 (fun tx htx => ?_)
  subst htx
  exact j_out hκ C0 hno hP1 hD1 hS1 hl (names := ["java/lang/RuntimeException", "java/lang/Exception"]) (nb := 990) (by decide) (by decide) rfl rfl jLNAS_pl jLNAS_g jLNAS_o (nas_text p1).1 (nas_text p1).2 (by decide) (by decide) (by decide) (Nat.le_of_ble_eq_true rfl) (by decide) (by decide)
theorem mt_nX24 {κ : jK} (hκ : jX κ) (G : Nat → Nat) (T : XS) (q : Nat) {p1 : Int32} (h0 : p1 < 0) : jXM κ yX24_init (ws_ yX24_init cX24_init 2 none) 220 3 1000 [.ref q, .int p1] (wX κ G (xO T q (rawO 24))) (fun _ _ => False) "java/lang/NegativeArraySizeException" := by
  refine jXM.ofB (by decide) rfl (Nat.le_of_ble_eq_true rfl) fun p e s m args below meth c A ls C hnm hno hP hD hl => ?_
  have hl : jL ls 2 [some (.ref q), some (.int p1)] := hl
  have C0 := C
  have hpre := j_pre hκ.1.1 C hP hD va_S.rf [.ref q]
  obtain ⟨hx, hb, hml, hown, hts, hA, hK, hX, -⟩ := C
  refine lv_aload_n hx hb dX24_init_0 rfl (hl.at (i := 0) rfl) ?_
  refine w_back hA hD va_S.rf (va_runIN (As := []) (b := q) (rest := []) ⟨hx, hb, hml, hown, hts⟩ (mt_iN22 hκ (wX κ G (xO T q (rawO 24))) q s.heap.size) ⟨va_cnB 0 hts (lw_meth q1449) rfl rfl rfl ((hκ.2 s hX).1 _ q1459 rfl) (hts _ q150) ⟨by decide, by decide, by decide +kernel⟩ ⟨Nat.le_of_ble_eq_true rfl, Nat.le_of_ble_eq_true rfl⟩, rfl, hts _ q1448⟩ hpre rfl rfl hl.1 rfl (lv_room (Nat.le_of_ble_eq_true rfl)) dX24_init_1 ⟨Nat.le_of_ble_eq_true rfl, Nat.le_of_ble_eq_true rfl⟩) (fun u w1 H1 locs1 hp hP1 hD1 hS1 => ?_)
  obtain ⟨rfl, rfl⟩ := hp
  refine lv_aload_n hx hb dX24_init_4 rfl (hl.at (i := 0) rfl) ?_
  refine lv_iload_n hx hb dX24_init_5 rfl (hl.at (i := 1) rfl) ?_
  refine vx_newarrayZ hx hb h0 dX24_init_6 (fun tx htx => ?_)
  subst htx
  exact j_out hκ C0 hno hP1 hD1 hS1 hl (names := ["java/lang/RuntimeException", "java/lang/Exception"]) (nb := 990) (by decide) (by decide) rfl rfl jLNAS_pl jLNAS_g jLNAS_o (nas_text p1).1 (nas_text p1).2 (by decide) (by decide) (by decide) (Nat.le_of_ble_eq_true rfl) (by decide) (by decide)
theorem mt_nX25 {κ : jK} (hκ : jX κ) (G : Nat → Nat) (T : XS) (q : Nat) {p1 : Int32} (h0 : p1 < 0) : jXM κ yX25_init (ws_ yX25_init cX25_init 2 none) 220 3 1000 [.ref q, .int p1] (wX κ G (xO T q (rawO 25))) (fun _ _ => False) "java/lang/NegativeArraySizeException" := by
  refine jXM.ofB (by decide) rfl (Nat.le_of_ble_eq_true rfl) fun p e s m args below meth c A ls C hnm hno hP hD hl => ?_
  have hl : jL ls 2 [some (.ref q), some (.int p1)] := hl
  have C0 := C
  have hpre := j_pre hκ.1.1 C hP hD va_S.rf [.ref q]
  obtain ⟨hx, hb, hml, hown, hts, hA, hK, hX, -⟩ := C
  refine lv_aload_n hx hb dX25_init_0 rfl (hl.at (i := 0) rfl) ?_
  refine w_back hA hD va_S.rf (va_runIN (As := []) (b := q) (rest := []) ⟨hx, hb, hml, hown, hts⟩ (mt_iN22 hκ (wX κ G (xO T q (rawO 25))) q s.heap.size) ⟨va_cnB 0 hts (lw_meth q1449) rfl rfl rfl ((hκ.2 s hX).1 _ q1470 rfl) (hts _ q150) ⟨by decide, by decide, by decide +kernel⟩ ⟨Nat.le_of_ble_eq_true rfl, Nat.le_of_ble_eq_true rfl⟩, rfl, hts _ q1448⟩ hpre rfl rfl hl.1 rfl (lv_room (Nat.le_of_ble_eq_true rfl)) dX25_init_1 ⟨Nat.le_of_ble_eq_true rfl, Nat.le_of_ble_eq_true rfl⟩) (fun u w1 H1 locs1 hp hP1 hD1 hS1 => ?_)
  obtain ⟨rfl, rfl⟩ := hp
  refine lv_aload_n hx hb dX25_init_4 rfl (hl.at (i := 0) rfl) ?_
  refine lv_iload_n hx hb dX25_init_5 rfl (hl.at (i := 1) rfl) ?_
  refine vx_newarrayZ hx hb h0 dX25_init_6 (fun tx htx => ?_)
  subst htx
  exact j_out hκ C0 hno hP1 hD1 hS1 hl (names := ["java/lang/RuntimeException", "java/lang/Exception"]) (nb := 990) (by decide) (by decide) rfl rfl jLNAS_pl jLNAS_g jLNAS_o (nas_text p1).1 (nas_text p1).2 (by decide) (by decide) (by decide) (Nat.le_of_ble_eq_true rfl) (by decide) (by decide)
theorem mt_nX26 {κ : jK} (hκ : jX κ) (G : Nat → Nat) (T : XS) (q : Nat) {p1 : Int32} (h0 : p1 < 0) : jXM κ yX26_init (ws_ yX26_init cX26_init 2 none) 220 3 1000 [.ref q, .int p1] (wX κ G (xO T q (rawO 26))) (fun _ _ => False) "java/lang/NegativeArraySizeException" := by
  refine jXM.ofB (by decide) rfl (Nat.le_of_ble_eq_true rfl) fun p e s m args below meth c A ls C hnm hno hP hD hl => ?_
  have hl : jL ls 2 [some (.ref q), some (.int p1)] := hl
  have C0 := C
  have hpre := j_pre hκ.1.1 C hP hD va_S.rf [.ref q]
  obtain ⟨hx, hb, hml, hown, hts, hA, hK, hX, -⟩ := C
  refine lv_aload_n hx hb dX26_init_0 rfl (hl.at (i := 0) rfl) ?_
  refine w_back hA hD va_S.rf (va_runIN (As := []) (b := q) (rest := []) ⟨hx, hb, hml, hown, hts⟩ (mt_iN22 hκ (wX κ G (xO T q (rawO 26))) q s.heap.size) ⟨va_cnB 0 hts (lw_meth q1449) rfl rfl rfl ((hκ.2 s hX).1 _ q1480 rfl) (hts _ q150) ⟨by decide, by decide, by decide +kernel⟩ ⟨Nat.le_of_ble_eq_true rfl, Nat.le_of_ble_eq_true rfl⟩, rfl, hts _ q1448⟩ hpre rfl rfl hl.1 rfl (lv_room (Nat.le_of_ble_eq_true rfl)) dX26_init_1 ⟨Nat.le_of_ble_eq_true rfl, Nat.le_of_ble_eq_true rfl⟩) (fun u w1 H1 locs1 hp hP1 hD1 hS1 => ?_)
  obtain ⟨rfl, rfl⟩ := hp
  refine lv_aload_n hx hb dX26_init_4 rfl (hl.at (i := 0) rfl) ?_
  refine lv_iload_n hx hb dX26_init_5 rfl (hl.at (i := 1) rfl) ?_
  refine vx_newarrayZ hx hb h0 dX26_init_6 (fun tx htx => ?_)
  subst htx
  exact j_out hκ C0 hno hP1 hD1 hS1 hl (names := ["java/lang/RuntimeException", "java/lang/Exception"]) (nb := 990) (by decide) (by decide) rfl rfl jLNAS_pl jLNAS_g jLNAS_o (nas_text p1).1 (nas_text p1).2 (by decide) (by decide) (by decide) (Nat.le_of_ble_eq_true rfl) (by decide) (by decide)
theorem mt_nX27 {κ : jK} (hκ : jX κ) (G : Nat → Nat) (T : XS) (q : Nat) {p1 : Int32} (h0 : p1 < 0) : jXM κ yX27_init (ws_ yX27_init cX27_init 2 none) 220 3 1000 [.ref q, .int p1] (wX κ G (xO T q (rawO 27))) (fun _ _ => False) "java/lang/NegativeArraySizeException" := by
  refine jXM.ofB (by decide) rfl (Nat.le_of_ble_eq_true rfl) fun p e s m args below meth c A ls C hnm hno hP hD hl => ?_
  have hl : jL ls 2 [some (.ref q), some (.int p1)] := hl
  have C0 := C
  have hpre := j_pre hκ.1.1 C hP hD va_S.rf [.ref q]
  obtain ⟨hx, hb, hml, hown, hts, hA, hK, hX, -⟩ := C
  refine lv_aload_n hx hb dX27_init_0 rfl (hl.at (i := 0) rfl) ?_
  refine w_back hA hD va_S.rf (va_runIN (As := []) (b := q) (rest := []) ⟨hx, hb, hml, hown, hts⟩ (mt_iN22 hκ (wX κ G (xO T q (rawO 27))) q s.heap.size) ⟨va_cnB 0 hts (lw_meth q1449) rfl rfl rfl ((hκ.2 s hX).1 _ q1491 rfl) (hts _ q150) ⟨by decide, by decide, by decide +kernel⟩ ⟨Nat.le_of_ble_eq_true rfl, Nat.le_of_ble_eq_true rfl⟩, rfl, hts _ q1448⟩ hpre rfl rfl hl.1 rfl (lv_room (Nat.le_of_ble_eq_true rfl)) dX27_init_1 ⟨Nat.le_of_ble_eq_true rfl, Nat.le_of_ble_eq_true rfl⟩) (fun u w1 H1 locs1 hp hP1 hD1 hS1 => ?_)
  obtain ⟨rfl, rfl⟩ := hp
  refine lv_aload_n hx hb dX27_init_4 rfl (hl.at (i := 0) rfl) ?_
  refine lv_iload_n hx hb dX27_init_5 rfl (hl.at (i := 1) rfl) ?_
  refine vx_newarrayZ hx hb h0 dX27_init_6 (fun tx htx => ?_)
  subst htx
  exact j_out hκ C0 hno hP1 hD1 hS1 hl (names := ["java/lang/RuntimeException", "java/lang/Exception"]) (nb := 990) (by decide) (by decide) rfl rfl jLNAS_pl jLNAS_g jLNAS_o (nas_text p1).1 (nas_text p1).2 (by decide) (by decide) (by decide) (Nat.le_of_ble_eq_true rfl) (by decide) (by decide)
/-- the class of a row by its sort -/
def rowT (p : Int32) : Nat := if p = 0 then 23 else if p = 1 then 24 else if p = 2 then 25 else if p = 3 then 26 else 27
/-- a new row at q, its array at b -/
def newRowT (T : XS) (q b t N : Nat) : XS := xO (xO (xO T q (rawO t)) b (mkA (t + 7) N)) q (mkO t [] [some b])
theorem mt_x_newRow {κ : jK} (hκ : jX κ) (G : Nat → Nat) (T : XS) {p1 p2 : Int32} {N : Nat} (h0 : ¬ p2 < 0) (hN : p2.toNatClampNeg = N) (hle : N ≤ 60) : jM κ yX0_newRow (ws_ yX0_newRow cX0_newRow 2 (some (.object "NineKeysRound$Row"))) 5 2 128 [.int p1, .int p2] (wX κ G T) (fun u w' => ∃ q b, T.2.2.2 q = none ∧ (xO T q (rawO (rowT p1))).2.2.2 b = none ∧ u = some (.ref q) ∧ w' = wX κ G (newRowT T q b (rowT p1) N)) := by
  refine jM.of (by decide) rfl (Nat.le_of_ble_eq_true rfl) fun Γ C _ => ?_
  show J κ Γ (5, 2, 128, _) 2 (wX κ G T) 0 0 0 [some (.int p1), some (.int p2)] []
  refine j_iload_n C dX0_newRow_0 rfl rfl ?_
  by_cases c0 : p1 = 0
  · have hr : rowT p1 = 23 := by unfold rowT; rw [if_pos c0]
    refine j_tabEq C dX0_newRow_1 c0 (a := 0) rfl (by decide) (by decide) rfl (tgt := 32) (by decide) ?_
    refine jx_new hκ C 23 in_X23 tyX23 tyX23_ok q512 q1443 q151 rfl (by intro j hj; rcases j with _ | j <;> first | rfl | omega) (by decide) (Nat.le_of_ble_eq_true rfl) (Nat.le_of_ble_eq_true rfl) dX0_newRow_32 (f := fun q => T.2.2.2 q = none) (fun q hq => hq) (fun q hq => ?_)
    refine j_dup C dX0_newRow_35 rfl ?_
    refine j_iload_n C dX0_newRow_36 rfl rfl ?_
    refine j_callI hκ.1.1 C (As := [.int p2]) (mt_n23 hκ G T q h0 hN hle) q1446 q151 q1444 q1445 rfl (N := 1) ⟨by decide, by decide, by decide +kernel⟩ rfl dX0_newRow_37 ⟨Nat.le_of_ble_eq_true rfl, by decide, Nat.le_of_ble_eq_true rfl, Nat.le_of_ble_eq_true rfl, Nat.le_of_ble_eq_true rfl⟩ rfl (fun u w1 hp => ?_)
    obtain ⟨b, hb, rfl, rfl⟩ := hp
    exact j_aret C (e := some q) (Or.inl ⟨_, rfl⟩) dX0_newRow_40 (Nat.le_of_ble_eq_true rfl) (Nat.le_of_ble_eq_true rfl) ⟨q, b, hq, by rw [hr]; exact hb, rfl, by rw [hr]; rfl⟩
  by_cases c1 : p1 = 1
  · have hr : rowT p1 = 24 := by unfold rowT; rw [if_neg c0, if_pos c1]
    refine j_tabEq C dX0_newRow_1 c1 (a := 1) rfl (by decide) (by decide) rfl (tgt := 41) (by decide) ?_
    refine jx_new hκ C 24 in_X24 tyX24 tyX24_ok q1070 q1455 q152 rfl (by intro j hj; rcases j with _ | j <;> first | rfl | omega) (by decide) (Nat.le_of_ble_eq_true rfl) (Nat.le_of_ble_eq_true rfl) dX0_newRow_41 (f := fun q => T.2.2.2 q = none) (fun q hq => hq) (fun q hq => ?_)
    refine j_dup C dX0_newRow_44 rfl ?_
    refine j_iload_n C dX0_newRow_45 rfl rfl ?_
    refine j_callI hκ.1.1 C (As := [.int p2]) (mt_n24 hκ G T q h0 hN hle) q1458 q152 q1456 q1457 rfl (N := 1) ⟨by decide, by decide, by decide +kernel⟩ rfl dX0_newRow_46 ⟨Nat.le_of_ble_eq_true rfl, by decide, Nat.le_of_ble_eq_true rfl, Nat.le_of_ble_eq_true rfl, Nat.le_of_ble_eq_true rfl⟩ rfl (fun u w1 hp => ?_)
    obtain ⟨b, hb, rfl, rfl⟩ := hp
    exact j_aret C (e := some q) (Or.inl ⟨_, rfl⟩) dX0_newRow_49 (Nat.le_of_ble_eq_true rfl) (Nat.le_of_ble_eq_true rfl) ⟨q, b, hq, by rw [hr]; exact hb, rfl, by rw [hr]; rfl⟩
  by_cases c2 : p1 = 2
  · have hr : rowT p1 = 25 := by unfold rowT; rw [if_neg c0, if_neg c1, if_pos c2]
    refine j_tabEq C dX0_newRow_1 c2 (a := 2) rfl (by decide) (by decide) rfl (tgt := 50) (by decide) ?_
    refine jx_new hκ C 25 in_X25 tyX25 tyX25_ok q1465 q1466 q153 rfl (by intro j hj; rcases j with _ | j <;> first | rfl | omega) (by decide) (Nat.le_of_ble_eq_true rfl) (Nat.le_of_ble_eq_true rfl) dX0_newRow_50 (f := fun q => T.2.2.2 q = none) (fun q hq => hq) (fun q hq => ?_)
    refine j_dup C dX0_newRow_53 rfl ?_
    refine j_iload_n C dX0_newRow_54 rfl rfl ?_
    refine j_callI hκ.1.1 C (As := [.int p2]) (mt_n25 hκ G T q h0 hN hle) q1469 q153 q1467 q1468 rfl (N := 1) ⟨by decide, by decide, by decide +kernel⟩ rfl dX0_newRow_55 ⟨Nat.le_of_ble_eq_true rfl, by decide, Nat.le_of_ble_eq_true rfl, Nat.le_of_ble_eq_true rfl, Nat.le_of_ble_eq_true rfl⟩ rfl (fun u w1 hp => ?_)
    obtain ⟨b, hb, rfl, rfl⟩ := hp
    exact j_aret C (e := some q) (Or.inl ⟨_, rfl⟩) dX0_newRow_58 (Nat.le_of_ble_eq_true rfl) (Nat.le_of_ble_eq_true rfl) ⟨q, b, hq, by rw [hr]; exact hb, rfl, by rw [hr]; rfl⟩
  by_cases c3 : p1 = 3
  · have hr : rowT p1 = 26 := by unfold rowT; rw [if_neg c0, if_neg c1, if_neg c2, if_pos c3]
    refine j_tabEq C dX0_newRow_1 c3 (a := 3) rfl (by decide) (by decide) rfl (tgt := 59) (by decide) ?_
    refine jx_new hκ C 26 in_X26 tyX26 tyX26_ok q1475 q1476 q154 rfl (by intro j hj; rcases j with _ | j <;> first | rfl | omega) (by decide) (Nat.le_of_ble_eq_true rfl) (Nat.le_of_ble_eq_true rfl) dX0_newRow_59 (f := fun q => T.2.2.2 q = none) (fun q hq => hq) (fun q hq => ?_)
    refine j_dup C dX0_newRow_62 rfl ?_
    refine j_iload_n C dX0_newRow_63 rfl rfl ?_
    refine j_callI hκ.1.1 C (As := [.int p2]) (mt_n26 hκ G T q h0 hN hle) q1479 q154 q1477 q1478 rfl (N := 1) ⟨by decide, by decide, by decide +kernel⟩ rfl dX0_newRow_64 ⟨Nat.le_of_ble_eq_true rfl, by decide, Nat.le_of_ble_eq_true rfl, Nat.le_of_ble_eq_true rfl, Nat.le_of_ble_eq_true rfl⟩ rfl (fun u w1 hp => ?_)
    obtain ⟨b, hb, rfl, rfl⟩ := hp
    exact j_aret C (e := some q) (Or.inl ⟨_, rfl⟩) dX0_newRow_67 (Nat.le_of_ble_eq_true rfl) (Nat.le_of_ble_eq_true rfl) ⟨q, b, hq, by rw [hr]; exact hb, rfl, by rw [hr]; rfl⟩
  have hr : rowT p1 = 27 := by unfold rowT; rw [if_neg c0, if_neg c1, if_neg c2, if_neg c3]
  refine j_tabDef C [0, 1, 2, 3] dX0_newRow_1 ⟨tab_ne c0 rfl, tab_ne c1 rfl, tab_ne c2 rfl, tab_ne c3 rfl, trivial⟩ rfl rfl (tgt := 68) (by decide) ?_
  refine jx_new hκ C 27 in_X27 tyX27 tyX27_ok q1486 q1487 q155 rfl (by intro j hj; rcases j with _ | j <;> first | rfl | omega) (by decide) (Nat.le_of_ble_eq_true rfl) (Nat.le_of_ble_eq_true rfl) dX0_newRow_68 (f := fun q => T.2.2.2 q = none) (fun q hq => hq) (fun q hq => ?_)
  refine j_dup C dX0_newRow_71 rfl ?_
  refine j_iload_n C dX0_newRow_72 rfl rfl ?_
  refine j_callI hκ.1.1 C (As := [.int p2]) (mt_n27 hκ G T q h0 hN hle) q1490 q155 q1488 q1489 rfl (N := 1) ⟨by decide, by decide, by decide +kernel⟩ rfl dX0_newRow_73 ⟨Nat.le_of_ble_eq_true rfl, by decide, Nat.le_of_ble_eq_true rfl, Nat.le_of_ble_eq_true rfl, Nat.le_of_ble_eq_true rfl⟩ rfl (fun u w1 hp => ?_)
  obtain ⟨b, hb, rfl, rfl⟩ := hp
  exact j_aret C (e := some q) (Or.inl ⟨_, rfl⟩) dX0_newRow_76 (Nat.le_of_ble_eq_true rfl) (Nat.le_of_ble_eq_true rfl) ⟨q, b, hq, by rw [hr]; exact hb, rfl, by rw [hr]; rfl⟩
theorem mt_x_newRowX {κ : jK} (hκ : jX κ) (G : Nat → Nat) (T : XS) {p1 p2 : Int32} (h0 : p2 < 0) (hp : p1 = 0 ∨ p1 = 1 ∨ p1 = 2 ∨ p1 = 3 ∨ p1 = 4) : jXM κ yX0_newRow (ws_ yX0_newRow cX0_newRow 2 (some (.object "NineKeysRound$Row"))) 221 4 1064 [.int p1, .int p2] (wX κ G T) (fun _ _ => False) "java/lang/NegativeArraySizeException" := by
  refine jXM.ofB (by decide) rfl (Nat.le_of_ble_eq_true rfl) fun p e s m args below meth c A ls C hnm hno hP hD hl => ?_
  have hl : jL ls 2 [some (.int p1), some (.int p2)] := hl
  have C0 := C
  obtain ⟨hx, hb, hml, hown, hts, hA, hK, hX, -, -, -, hlocks, -⟩ := C
  refine lv_iload_n hx hb dX0_newRow_0 rfl (hl.at (i := 0) rfl) ?_
  rcases hp with rfl | rfl | rfl | rfl | rfl
  · refine lv_tableIn hx hb dX0_newRow_1 (by decide) (by decide) (off := 31) rfl (tgt := 32) (by decide) ?_
    refine w_new C0 in_X23 tyX23 tyX23_ok q512 q1443 q151 (hκ.cl rfl) (ci := oCi 23) (fs := rawF 23) (by intro j hj; rcases j with _ | j <;> first | rfl | omega) (Nat.le_of_ble_eq_true rfl) (Nat.le_of_ble_eq_true rfl) (fun q => 100 + q) dX0_newRow_32 hP hD va_S.rf (fun q H1 hq hP1 hD1 hS1 => ?_)
    rw [← wX_raw] at hP1 hD1
    have hfr := wX_new hq
    refine lv_dup hx hb dX0_newRow_35 rfl ?_
    refine lv_iload_n hx hb dX0_newRow_36 rfl (hl.at (i := 1) rfl) ?_
    have hpre := j_pre hκ.1.1 C0 hP1 hD1 hS1 [.ref q, .int p2]
    refine w_backX hA hD1 hS1 (vx_runI (As := [.int p2]) (b := q) (rest := [.ref q]) ⟨hx, hb, hml, hown, hts⟩ (mt_nX23 hκ G T q h0 H1.size) (cwI 1 hts (lw_meth q1446) rfl rfl rfl (hts _ q151) (hts _ q1444) (hts _ q1445) rfl ⟨by decide, by decide, by decide +kernel⟩ ⟨Nat.le_of_ble_eq_true rfl, Nat.le_of_ble_eq_true rfl⟩) hpre rfl rfl hl.1 rfl (lv_room (Nat.le_of_ble_eq_true rfl)) dX0_newRow_37 ⟨Nat.le_of_ble_eq_true rfl, Nat.le_of_ble_eq_true rfl⟩) (fun _ _ _ _ h => h.elim) (fun q9 ce H2 locs2 hP2 hD2 hS2 hce hcv hcl => ?_)
    exact vx_out (fun x hx => (hno x hx).elim) hlocks hce hcv hcl (fun t ht hW => ⟨rfl, fun r x hr => by rw [ht]; exact hP2 r x (wX_up hfr _ r x hr), hD, hS2.F ht⟩) hS2.2.2 (Nat.le_of_ble_eq_true rfl) (Nat.le_of_ble_eq_true rfl)
  · refine lv_tableIn hx hb dX0_newRow_1 (by decide) (by decide) (off := 40) rfl (tgt := 41) (by decide) ?_
    refine w_new C0 in_X24 tyX24 tyX24_ok q1070 q1455 q152 (hκ.cl rfl) (ci := oCi 24) (fs := rawF 24) (by intro j hj; rcases j with _ | j <;> first | rfl | omega) (Nat.le_of_ble_eq_true rfl) (Nat.le_of_ble_eq_true rfl) (fun q => 100 + q) dX0_newRow_41 hP hD va_S.rf (fun q H1 hq hP1 hD1 hS1 => ?_)
    rw [← wX_raw] at hP1 hD1
    have hfr := wX_new hq
    refine lv_dup hx hb dX0_newRow_44 rfl ?_
    refine lv_iload_n hx hb dX0_newRow_45 rfl (hl.at (i := 1) rfl) ?_
    have hpre := j_pre hκ.1.1 C0 hP1 hD1 hS1 [.ref q, .int p2]
    refine w_backX hA hD1 hS1 (vx_runI (As := [.int p2]) (b := q) (rest := [.ref q]) ⟨hx, hb, hml, hown, hts⟩ (mt_nX24 hκ G T q h0 H1.size) (cwI 1 hts (lw_meth q1458) rfl rfl rfl (hts _ q152) (hts _ q1456) (hts _ q1457) rfl ⟨by decide, by decide, by decide +kernel⟩ ⟨Nat.le_of_ble_eq_true rfl, Nat.le_of_ble_eq_true rfl⟩) hpre rfl rfl hl.1 rfl (lv_room (Nat.le_of_ble_eq_true rfl)) dX0_newRow_46 ⟨Nat.le_of_ble_eq_true rfl, Nat.le_of_ble_eq_true rfl⟩) (fun _ _ _ _ h => h.elim) (fun q9 ce H2 locs2 hP2 hD2 hS2 hce hcv hcl => ?_)
    exact vx_out (fun x hx => (hno x hx).elim) hlocks hce hcv hcl (fun t ht hW => ⟨rfl, fun r x hr => by rw [ht]; exact hP2 r x (wX_up hfr _ r x hr), hD, hS2.F ht⟩) hS2.2.2 (Nat.le_of_ble_eq_true rfl) (Nat.le_of_ble_eq_true rfl)
  · refine lv_tableIn hx hb dX0_newRow_1 (by decide) (by decide) (off := 49) rfl (tgt := 50) (by decide) ?_
    refine w_new C0 in_X25 tyX25 tyX25_ok q1465 q1466 q153 (hκ.cl rfl) (ci := oCi 25) (fs := rawF 25) (by intro j hj; rcases j with _ | j <;> first | rfl | omega) (Nat.le_of_ble_eq_true rfl) (Nat.le_of_ble_eq_true rfl) (fun q => 100 + q) dX0_newRow_50 hP hD va_S.rf (fun q H1 hq hP1 hD1 hS1 => ?_)
    rw [← wX_raw] at hP1 hD1
    have hfr := wX_new hq
    refine lv_dup hx hb dX0_newRow_53 rfl ?_
    refine lv_iload_n hx hb dX0_newRow_54 rfl (hl.at (i := 1) rfl) ?_
    have hpre := j_pre hκ.1.1 C0 hP1 hD1 hS1 [.ref q, .int p2]
    refine w_backX hA hD1 hS1 (vx_runI (As := [.int p2]) (b := q) (rest := [.ref q]) ⟨hx, hb, hml, hown, hts⟩ (mt_nX25 hκ G T q h0 H1.size) (cwI 1 hts (lw_meth q1469) rfl rfl rfl (hts _ q153) (hts _ q1467) (hts _ q1468) rfl ⟨by decide, by decide, by decide +kernel⟩ ⟨Nat.le_of_ble_eq_true rfl, Nat.le_of_ble_eq_true rfl⟩) hpre rfl rfl hl.1 rfl (lv_room (Nat.le_of_ble_eq_true rfl)) dX0_newRow_55 ⟨Nat.le_of_ble_eq_true rfl, Nat.le_of_ble_eq_true rfl⟩) (fun _ _ _ _ h => h.elim) (fun q9 ce H2 locs2 hP2 hD2 hS2 hce hcv hcl => ?_)
    exact vx_out (fun x hx => (hno x hx).elim) hlocks hce hcv hcl (fun t ht hW => ⟨rfl, fun r x hr => by rw [ht]; exact hP2 r x (wX_up hfr _ r x hr), hD, hS2.F ht⟩) hS2.2.2 (Nat.le_of_ble_eq_true rfl) (Nat.le_of_ble_eq_true rfl)
  · refine lv_tableIn hx hb dX0_newRow_1 (by decide) (by decide) (off := 58) rfl (tgt := 59) (by decide) ?_
    refine w_new C0 in_X26 tyX26 tyX26_ok q1475 q1476 q154 (hκ.cl rfl) (ci := oCi 26) (fs := rawF 26) (by intro j hj; rcases j with _ | j <;> first | rfl | omega) (Nat.le_of_ble_eq_true rfl) (Nat.le_of_ble_eq_true rfl) (fun q => 100 + q) dX0_newRow_59 hP hD va_S.rf (fun q H1 hq hP1 hD1 hS1 => ?_)
    rw [← wX_raw] at hP1 hD1
    have hfr := wX_new hq
    refine lv_dup hx hb dX0_newRow_62 rfl ?_
    refine lv_iload_n hx hb dX0_newRow_63 rfl (hl.at (i := 1) rfl) ?_
    have hpre := j_pre hκ.1.1 C0 hP1 hD1 hS1 [.ref q, .int p2]
    refine w_backX hA hD1 hS1 (vx_runI (As := [.int p2]) (b := q) (rest := [.ref q]) ⟨hx, hb, hml, hown, hts⟩ (mt_nX26 hκ G T q h0 H1.size) (cwI 1 hts (lw_meth q1479) rfl rfl rfl (hts _ q154) (hts _ q1477) (hts _ q1478) rfl ⟨by decide, by decide, by decide +kernel⟩ ⟨Nat.le_of_ble_eq_true rfl, Nat.le_of_ble_eq_true rfl⟩) hpre rfl rfl hl.1 rfl (lv_room (Nat.le_of_ble_eq_true rfl)) dX0_newRow_64 ⟨Nat.le_of_ble_eq_true rfl, Nat.le_of_ble_eq_true rfl⟩) (fun _ _ _ _ h => h.elim) (fun q9 ce H2 locs2 hP2 hD2 hS2 hce hcv hcl => ?_)
    exact vx_out (fun x hx => (hno x hx).elim) hlocks hce hcv hcl (fun t ht hW => ⟨rfl, fun r x hr => by rw [ht]; exact hP2 r x (wX_up hfr _ r x hr), hD, hS2.F ht⟩) hS2.2.2 (Nat.le_of_ble_eq_true rfl) (Nat.le_of_ble_eq_true rfl)
  · refine lv_tableOut hx hb dX0_newRow_1 (by decide) (tgt := 68) (by decide) ?_
    refine w_new C0 in_X27 tyX27 tyX27_ok q1486 q1487 q155 (hκ.cl rfl) (ci := oCi 27) (fs := rawF 27) (by intro j hj; rcases j with _ | j <;> first | rfl | omega) (Nat.le_of_ble_eq_true rfl) (Nat.le_of_ble_eq_true rfl) (fun q => 100 + q) dX0_newRow_68 hP hD va_S.rf (fun q H1 hq hP1 hD1 hS1 => ?_)
    rw [← wX_raw] at hP1 hD1
    have hfr := wX_new hq
    refine lv_dup hx hb dX0_newRow_71 rfl ?_
    refine lv_iload_n hx hb dX0_newRow_72 rfl (hl.at (i := 1) rfl) ?_
    have hpre := j_pre hκ.1.1 C0 hP1 hD1 hS1 [.ref q, .int p2]
    refine w_backX hA hD1 hS1 (vx_runI (As := [.int p2]) (b := q) (rest := [.ref q]) ⟨hx, hb, hml, hown, hts⟩ (mt_nX27 hκ G T q h0 H1.size) (cwI 1 hts (lw_meth q1490) rfl rfl rfl (hts _ q155) (hts _ q1488) (hts _ q1489) rfl ⟨by decide, by decide, by decide +kernel⟩ ⟨Nat.le_of_ble_eq_true rfl, Nat.le_of_ble_eq_true rfl⟩) hpre rfl rfl hl.1 rfl (lv_room (Nat.le_of_ble_eq_true rfl)) dX0_newRow_73 ⟨Nat.le_of_ble_eq_true rfl, Nat.le_of_ble_eq_true rfl⟩) (fun _ _ _ _ h => h.elim) (fun q9 ce H2 locs2 hP2 hD2 hS2 hce hcv hcl => ?_)
    exact vx_out (fun x hx => (hno x hx).elim) hlocks hce hcv hcl (fun t ht hW => ⟨rfl, fun r x hr => by rw [ht]; exact hP2 r x (wX_up hfr _ r x hr), hD, hS2.F ht⟩) hS2.2.2 (Nat.le_of_ble_eq_true rfl) (Nat.le_of_ble_eq_true rfl)
theorem hG_x_newRow : GoodIn lw_all (va_wsS "NineKeysRound" 514 yX0_newRow (ws_ yX0_newRow cX0_newRow 2 (some (.object "NineKeysRound$Row")))) := lw_S q1440 q1441 q113 q1442
theorem hy_x_newRow : yX0_newRow.cls ≠ "java/lang/invoke/MethodHandle" ∧ yX0_newRow.cls ≠ "java/lang/invoke/VarHandle" ∧ (parseMethodDescriptor yX0_newRow.desc).map (fun d => d.parameters.length) = some 2 := ⟨by decide, by decide, by decide +kernel⟩
def x_row (Q : Int32 → XS → Prop) (m : Nat) (T : XS) (p1 p2 p3 : Int32) : Prop :=
  bindP (x_isShelf p1) fun v2 =>
  (if (b2i v2) = 0 then
  Q (-1) T
  else
  bindP (x_in p2 0 4) fun v4 =>
  (if (b2i v4) = 0 then
  Q (-1) T
  else
  (if p3 ≤ 60 then
  (if p3 < 0 then
  (p2 = 0 ∨ p2 = 1 ∨ p2 = 2 ∨ p2 = 3 ∨ p2 = 4) ∧
  budP m 20 fun _ =>
  Q (-14) T
  else
  p3.toNatClampNeg ≤ 60 ∧ chkP 6 p1 (
  budP m 2 fun _ =>
  ∀ q b, T.2.2.2 q = none → (xO T q (rawO (rowT p2))).2.2.2 b = none →
  Q 1 (xR (newRowT T q b (rowT p2) p3.toNatClampNeg) 48 p1.toNatClampNeg (some q))))
  else
  Q (-1) T)))
theorem getO_newRow (T : XS) (q b t N : Nat) : getO (newRowT T q b t N) q t = some (mkO t [] [some b]) := getO_eq (xO_at _ _ _) rfl
theorem mt_x_row {κ : jK} (hκ : jX κ) (G : Nat → Nat) {m : Nat} {T : XS} {p1 p2 p3 : Int32} {Q : Int32 → XS → Prop} (h : x_row Q m T p1 p2 p3) : jM κ yX0_row (wsW_ yX0_row cX0_row 5 (some .int) [((24 : Nat), (35 : Nat), (38 : Nat), (518 : Nat))]) 230 m (64 * m) [.ref (G 0), .int p1, .int p2, .int p3] (wX κ G T) (fun u w' => ∃ v T', Q v T' ∧ u = some (.int v) ∧ w' = wX κ G T') := by
  rw [x_row] at h
  refine jM.ofH (by decide) rfl (Nat.le_of_ble_eq_true rfl) fun Γ C ht => ?_
  show J κ Γ (230, m, 64 * m, (fun u w' => ∃ v T', Q v T' ∧ u = some (.int v) ∧ w' = wX κ G T')) 5 (wX κ G T) 0 (64 * 0) 0 [some (.ref (G 0)), some (.int p1), some (.int p2), some (.int p3), none] []
  refine j_iload_n C dX0_row_0 rfl rfl ?_
  obtain ⟨v2, e1, h⟩ := obP h
  refine j_Si hκ.1.1 C (mt_x_isShelf hκ e1) hG_x_isShelf hy_x_isShelf rfl dX0_row_1 (jfit.of (Nat.le_of_ble_eq_true rfl) (by decide) (by first | omega | (dsimp only; omega)) (by first | omega | (dsimp only; omega)) (Nat.le_of_ble_eq_true rfl)) rfl ?_
  refine j_if_eq C dX0_row_4 (tgt := 22) (by decide) (fun c => ?_) (fun c => ?_)
  · replace h := ipP c h
    refine j_iconst C (v := (-1)) dX0_row_22 rfl ?_
    exact j_iret C dX0_row_23 (by first | omega | (dsimp only; omega)) (by first | omega | (dsimp only; omega)) ⟨_, _, h, rfl, rfl⟩
  replace h := imP c h
  refine j_iload_n C dX0_row_7 rfl rfl ?_
  refine j_iconst C (v := 0) dX0_row_8 rfl ?_
  refine j_iconst C (v := 4) dX0_row_9 rfl ?_
  obtain ⟨v4, e3, h⟩ := obP h
  refine j_Si hκ.1.1 C (mt_x_in hκ e3) hG_x_in hy_x_in rfl dX0_row_10 (jfit.of (Nat.le_of_ble_eq_true rfl) (by decide) (by first | omega | (dsimp only; omega)) (by first | omega | (dsimp only; omega)) (Nat.le_of_ble_eq_true rfl)) rfl ?_
  refine j_if_eq C dX0_row_13 (tgt := 22) (by decide) (fun c => ?_) (fun c => ?_)
  · replace h := ipP c h
    refine j_iconst C (v := (-1)) dX0_row_22 rfl ?_
    exact j_iret C dX0_row_23 (by first | omega | (dsimp only; omega)) (by first | omega | (dsimp only; omega)) ⟨_, _, h, rfl, rfl⟩
  replace h := imP c h
  refine j_iload_n C dX0_row_16 rfl rfl ?_
  refine j_bipush C (v := 60) dX0_row_17 rfl ?_
  refine j_icmp_le C dX0_row_19 (tgt := 24) (by decide) (fun c => ?_) (fun c => ?_)
  · replace h := ipP c h
    refine j_aload_n C dX0_row_24 rfl rfl ?_
    refine jx_geta hκ C 48 (by decide) rfl rfl q237 dX0_row_25 ?_
    refine j_iload_n C dX0_row_28 rfl rfl ?_
    refine j_iload_n C dX0_row_29 rfl rfl ?_
    refine j_iload_n C dX0_row_30 rfl rfl ?_
    by_cases c3 : p3 < 0
    · replace h := ipP c3 h
      obtain ⟨hp, m2, e4, h⟩ := h
      refine j_callSX hκ C ht (jcat_mk [] (24, 35, 38, 518) [] "java/lang/NegativeArraySizeException" rfl trivial (by decide) (by decide) q1426 q1438 rfl) (mt_x_newRowX hκ G T c3 hp) hG_x_newRow hy_x_newRow rfl dX0_row_31 ⟨Nat.le_of_ble_eq_true rfl, by decide, (by first | omega | (dsimp only; omega)), (by first | omega | (dsimp only; omega)), Nat.le_of_ble_eq_true rfl⟩ rfl (fun _ _ h => h.elim) (fun q9 => ?_)
      refine j_astore C dX0_row_38 (by decide) rfl ?_
      refine j_bipush C (v := (-14)) dX0_row_40 rfl ?_
      exact j_iret C dX0_row_42 (by first | omega | (dsimp only; omega)) (by first | omega | (dsimp only; omega)) ⟨_, _, h, rfl, rfl⟩
    replace h := imP c3 h
    obtain ⟨hle, hin, m2, e4, h⟩ := h
    refine j_callS hκ.1.1 C (mt_x_newRow hκ G T c3 rfl hle) hG_x_newRow hy_x_newRow rfl dX0_row_31 ⟨Nat.le_of_ble_eq_true rfl, by decide, (by first | omega | (dsimp only; omega)), (by first | omega | (dsimp only; omega)), Nat.le_of_ble_eq_true rfl⟩ rfl (fun u w1 hp => ?_)
    obtain ⟨q, b, hq, hb, rfl, rfl⟩ := hp
    replace h := h q b hq hb
    have hg := getO_newRow T q b (rowT p2) p3.toNatClampNeg
    have hT : rowT p2 = 23 ∨ rowT p2 = 24 ∨ rowT p2 = 25 ∨ rowT p2 = 26 ∨ rowT p2 = 27 := by unfold rowT; by_cases c0 : p2 = 0 <;> by_cases c1 : p2 = 1 <;> by_cases c2 : p2 = 2 <;> by_cases c3 : p2 = 3 <;> simp [c0, c1, c2, c3]
    generalize rowT p2 = t at h hg hT ⊢
    rcases hT with rfl | rfl | rfl | rfl | rfl
    · refine jx_aastO hκ C 48 rfl rfl hin hg (by decide) rfl q2274 dX0_row_34 ?_
      refine j_goto C dX0_row_35 (tgt := 43) (by decide) ?_
      refine j_iconst C (v := 1) dX0_row_43 rfl ?_
      exact j_iret C dX0_row_44 (by first | omega | (dsimp only; omega)) (by first | omega | (dsimp only; omega)) ⟨_, _, h, rfl, rfl⟩
    · refine jx_aastO hκ C 48 rfl rfl hin hg (by decide) rfl q2275 dX0_row_34 ?_
      refine j_goto C dX0_row_35 (tgt := 43) (by decide) ?_
      refine j_iconst C (v := 1) dX0_row_43 rfl ?_
      exact j_iret C dX0_row_44 (by first | omega | (dsimp only; omega)) (by first | omega | (dsimp only; omega)) ⟨_, _, h, rfl, rfl⟩
    · refine jx_aastO hκ C 48 rfl rfl hin hg (by decide) rfl q2276 dX0_row_34 ?_
      refine j_goto C dX0_row_35 (tgt := 43) (by decide) ?_
      refine j_iconst C (v := 1) dX0_row_43 rfl ?_
      exact j_iret C dX0_row_44 (by first | omega | (dsimp only; omega)) (by first | omega | (dsimp only; omega)) ⟨_, _, h, rfl, rfl⟩
    · refine jx_aastO hκ C 48 rfl rfl hin hg (by decide) rfl q2277 dX0_row_34 ?_
      refine j_goto C dX0_row_35 (tgt := 43) (by decide) ?_
      refine j_iconst C (v := 1) dX0_row_43 rfl ?_
      exact j_iret C dX0_row_44 (by first | omega | (dsimp only; omega)) (by first | omega | (dsimp only; omega)) ⟨_, _, h, rfl, rfl⟩
    · refine jx_aastO hκ C 48 rfl rfl hin hg (by decide) rfl q2278 dX0_row_34 ?_
      refine j_goto C dX0_row_35 (tgt := 43) (by decide) ?_
      refine j_iconst C (v := 1) dX0_row_43 rfl ?_
      exact j_iret C dX0_row_44 (by first | omega | (dsimp only; omega)) (by first | omega | (dsimp only; omega)) ⟨_, _, h, rfl, rfl⟩
  replace h := imP c h
  refine j_iconst C (v := (-1)) dX0_row_22 rfl ?_
  exact j_iret C dX0_row_23 (by first | omega | (dsimp only; omega)) (by first | omega | (dsimp only; omega)) ⟨_, _, h, rfl, rfl⟩
