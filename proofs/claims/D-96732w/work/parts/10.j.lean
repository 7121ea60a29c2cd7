/-! THE J LAYER: a judgement over a world by roles (a role is a number; the world gives its address and its cell), one lemma an instruction. Own text. -/
set_option maxRecDepth 100000
abbrev jW : Type := Nat → Option (Nat × va_E)
def jP (D : va_G) (cl : List vw_C) (w : jW) (H : Heap) : Prop := ∀ (r : Nat) (q : Nat × va_E), w r = some q → va_at D cl q H
/-- a cell that stands at the start: what is known of it -/
def ka_at (D : va_G) (cl : List vw_C) (q : Nat × va_E) (H : Heap) : Prop := match q.2 with
  | .inl a => ∃ cell : Cell, H[q.1]? = some cell ∧ cell.cls = a.1 ∧ (cell.vm ≠ .unknown ∧ ∀ k, cell.vm ≠ .statics k) ∧ (a.2.1 ≤ cell.slots.size ∧ cell.slots.size.toInt32 = Int32.ofNat a.2.1) ∧ ∀ j, j < a.2.1 → cell.slots[j]? = (vp_cell a.1 a.2).slots[j]?
  | .inr o => ∃ (r : vw_C) (cell : Cell), cl[o.1]? = some r ∧ H[q.1]? = some cell ∧ cell.cls = D.1 o.1 ∧ cell.vm.isStatics = false ∧ cell.vm ≠ .unknown ∧ ∀ k, k < r.2.2 → cell.slots[D.2 o.1 k]? = some (vp_V o.2 k)
theorem ka_at.lt {D : va_G} {cl : List vw_C} {q : Nat × va_E} {H : Heap} (h : ka_at D cl q H) : q.1 < H.size := by
  obtain ⟨a, e⟩ := q
  cases e with
  | inl x =>
    obtain ⟨cell, h1, -⟩ := h
    exact (Array.getElem?_eq_some_iff.mp h1).1
  | inr x =>
    obtain ⟨r, cell, -, h1, -⟩ := h
    exact (Array.getElem?_eq_some_iff.mp h1).1
theorem ka_at.kept {D : va_G} {cl : List vw_C} {q : Nat × va_E} {H H1 : Heap} (h : ka_at D cl q H) (e : H1[q.1]? = H[q.1]?) : ka_at D cl q H1 := by
  obtain ⟨a, x⟩ := q
  cases x with
  | inl x =>
    obtain ⟨cell, h1, h2⟩ := h
    exact ⟨cell, e.trans h1, h2⟩
  | inr x =>
    obtain ⟨r, cell, h0, h1, h2⟩ := h
    exact ⟨r, cell, h0, e.trans h1, h2⟩
theorem ka_arr {U : State} {cell : Cell} {cA : ClassId} {ty : FieldType} (h : ArrOfT U cA ty) (e : cell.cls = cA) (hk : ∀ k, cell.vm ≠ .statics k) : U.isArrayOf cell ty := by
  have := h 0 (fun _ => .null)
  refine ⟨hk, ?_⟩
  rw [e]
  exact this.2
def jPK (D : va_G) (cl : List vw_C) (w : jW) (H : Heap) : Prop := ∀ (r : Nat) (q : Nat × va_E), w r = some q → ka_at D cl q H
theorem jPK.kept {D : va_G} {cl : List vw_C} {w : jW} {H H1 : Heap} (h : jPK D cl w H) (hq : ∀ (r : Nat) (q : Nat × va_E), w r = some q → H1[q.1]? = H[q.1]?) : jPK D cl w H1 := fun r q hr => (h r q hr).kept (hq r q hr)
def jD (A : Nat → Prop) (w : jW) : Prop := (∀ (r r' : Nat) (q q' : Nat × va_E), w r = some q → w r' = some q' → q.1 = q'.1 → r = r') ∧ ∀ (r : Nat) (q : Nat × va_E), w r = some q → A q.1
def jset (w : jW) (r : Nat) (q : Nat × va_E) : jW := fun r' => if r' = r then some q else w r'
def jA (w : jW) (sz : Nat) : Nat → Prop := fun q => (∃ (r : Nat) (e : va_E), w r = some (q, e)) ∨ sz ≤ q
theorem jset_eq {w : jW} {r : Nat} {q : Nat × va_E} {r' : Nat} {q' : Nat × va_E} (h : jset w r q r' = some q') : (r' = r ∧ q' = q) ∨ (r' ≠ r ∧ w r' = some q') := by
  unfold jset at h
  by_cases hr : r' = r
  · rw [if_pos hr] at h; exact Or.inl ⟨hr, (Option.some.inj h).symm⟩
  · rw [if_neg hr] at h; exact Or.inr ⟨hr, h⟩
theorem jP.kept {D : va_G} {cl : List vw_C} {w : jW} {H H1 : Heap} (h : jP D cl w H) (hq : ∀ (r : Nat) (q : Nat × va_E), w r = some q → H1[q.1]? = H[q.1]?) : jP D cl w H1 := fun r q hr => (h r q hr).kept (hq r q hr)
theorem jP.set {D : va_G} {cl : List vw_C} {A : Nat → Prop} {w : jW} {r a : Nat} {e0 e : va_E} {H H1 : Heap} (h : jP D cl w H) (hD : jD A w) (hp : w r = some (a, e0)) (he : va_at D cl (a, e) H1) (oq : ∀ q : Nat, q ≠ a → H1[q]? = H[q]?) : jP D cl (jset w r (a, e)) H1 := by
  intro r' q hr
  rcases jset_eq hr with ⟨-, rfl⟩ | ⟨h1, h2⟩
  · exact he
  · exact (h r' q h2).kept (oq q.1 fun z => h1 (hD.1 r' r q (a, e0) h2 hp z))
theorem jD.set {A : Nat → Prop} {w : jW} {r a : Nat} {e0 e : va_E} (hD : jD A w) (hp : w r = some (a, e0)) : jD A (jset w r (a, e)) := by
  refine ⟨fun r1 r2 q1 q2 h1 h2 h3 => ?_, fun r1 q1 h1 => ?_⟩
  · rcases jset_eq h1 with ⟨e1, rfl⟩ | ⟨n1, w1⟩ <;> rcases jset_eq h2 with ⟨e2, rfl⟩ | ⟨n2, w2⟩
    · rw [e1, e2]
    · exact absurd (hD.1 r2 r q2 (a, e0) w2 hp h3.symm) n2
    · exact absurd (hD.1 r1 r q1 (a, e0) w1 hp h3) n1
    · exact hD.1 r1 r2 q1 q2 w1 w2 h3
  · rcases jset_eq h1 with ⟨-, rfl⟩ | ⟨-, w1⟩
    · exact hD.2 r (a, e0) hp
    · exact hD.2 r1 q1 w1
theorem jP.push {D : va_G} {cl : List vw_C} {w : jW} {r a : Nat} {e : va_E} {H H1 : Heap} (h : jP D cl w H) (ha : a = H.size) (he : va_at D cl (a, e) H1) (oq : ∀ q : Nat, q < H.size → H1[q]? = H[q]?) : jP D cl (jset w r (a, e)) H1 := by
  intro r' q hr
  rcases jset_eq hr with ⟨-, rfl⟩ | ⟨h1, h2⟩
  · exact he
  · exact (h r' q h2).kept (oq q.1 (h r' q h2).lt)
theorem jD.push {D : va_G} {cl : List vw_C} {A : Nat → Prop} {w : jW} {r a : Nat} {e : va_E} {H : Heap} (hD : jD A w) (hP : jP D cl w H) (ha : a = H.size) (hA : A a) : jD A (jset w r (a, e)) := by
  refine ⟨fun r1 r2 q1 q2 h1 h2 h3 => ?_, fun r1 q1 h1 => ?_⟩
  · rcases jset_eq h1 with ⟨e1, rfl⟩ | ⟨n1, w1⟩ <;> rcases jset_eq h2 with ⟨e2, rfl⟩ | ⟨n2, w2⟩
    · rw [e1, e2]
    · have := (hP r2 q2 w2).lt; simp only at h3; omega
    · have := (hP r1 q1 w1).lt; simp only at h3; omega
    · exact hD.1 r1 r2 q1 q2 w1 w2 h3
  · rcases jset_eq h1 with ⟨-, rfl⟩ | ⟨-, w1⟩
    · exact hA
    · exact hD.2 r1 q1 w1
theorem jD.self {w : jW} {sz : Nat} {A : Nat → Prop} (h : jD A w) : jD (jA w sz) w := ⟨h.1, fun r q hr => Or.inl ⟨r, q.2, hr⟩⟩
theorem jD.weaken {A B : Nat → Prop} {w : jW} (h : jD A w) (hAB : ∀ q, A q → B q) : jD B w := ⟨h.1, fun r q hr => hAB _ (h.2 r q hr)⟩
/-- what never changes in a run: launch, tables' numbers, classes, array classes, constant cells, further words -/
abbrev jK : Type := Launch × va_G × List vw_C × List (ClassId × FieldType) × jW × (State → Prop)
/-- two statics that an exception's making reads -/
def jZ (A : Nat → Prop) (U : State) (H : Heap) : Prop := vx_Zq Bundle.tN "UNASSIGNED_STACK" Bundle.steD A U H ∧ vx_Zq Bundle.tN "SUPPRESSED_SENTINEL" Bundle.listD A U H ∧ va_Z "java/lang/String" "COMPACT_STRINGS" "Z" (.int 1) A U H
/-- a frame -/
abbrev jG : Type := Program × Env × State × MethodId × Array Value × List Frame × Method × Code × (Nat → Prop)
/-- a contract's room and end: frames, cells, slots, what holds of the answer and of the world behind -/
abbrev jS : Type := Nat × Nat × Nat × (Option Value → jW → Prop)
def jR (f mc ms : Nat) : Room := { frames := f, cells := mc, slots := ms, locals := 48 * f }
def jQ (κ : jK) (post : Option Value → jW → Prop) (A : Nat → Prop) : Array Value → State → Outcome → State → Prop := fun _ st oc t => (∃ (v : Option Value) (w : jW), oc = .returned v ∧ post v w ∧ jP κ.2.1 κ.2.2.1 w t.heap ∧ jD A w) ∧ va_F A st t
def jL (ls : Array Slot) (nL : Nat) (L : List (Option Value)) : Prop := ls.size = nL ∧ lv_wf ls ∧ ∀ (i : Nat) (v : Value), L[i]? = some (some v) → ls[i]? = some (.val v)
/-- the judgement -/
def J (κ : jK) (Γ : jG) (σ : jS) (nL : Nat) (w : jW) (k n : Nat) (pc : Nat) (L : List (Option Value)) (st : List Value) : Prop :=
  match Γ with
  | (p, e, s, m, args, below, meth, c, A) => ∀ (H : Heap) (locs : List Loc) (ls : Array Slot), jP κ.2.1 κ.2.2.1 w H → jD A w → va_S A s.heap H locs → jL ls nL L → W p κ.1 e (jR σ.1 σ.2.1 σ.2.2.1) s m args below meth c H locs k n (MQ below (jQ κ σ.2.2.2 A) args s σ.2.1 σ.2.2.1 A) (F0 m pc ls st)
def jC (κ : jK) (Γ : jG) (cc : ByteArray) (nL : Nat) (own : String) (ret : Option FieldType) : Prop :=
  match Γ with
  | (p, _, s, m, args, _, meth, c, A) => p.tables.exec = Jvm.exec ∧ c.code = cc ∧ c.maxLocals = nL ∧ s.vm.findClass own = some m.cls ∧ (∀ w ∈ lw_all, w.before args s = true) ∧ (∀ q, s.heap.size ≤ q → A q) ∧ va_K κ.2.1 κ.2.2.1 κ.2.2.2.1 s ∧ κ.2.2.2.2.2 s ∧ jPK κ.2.1 κ.2.2.1 κ.2.2.2.2.1 s.heap ∧ (∀ (r : Nat) (q : Nat × va_E), κ.2.2.2.2.1 r = some q → ¬ A q.1) ∧ jZ A s s.heap ∧ meth.locks = false ∧ meth.sig.returnType = ret
/-- a method's contract -/
def jPc (κ : jK) (av : List Value) (w : jW) (sz : Nat) : Array Value → State → Prop := va_Pc av (fun U => U.heap.size = sz ∧ jP κ.2.1 κ.2.2.1 w U.heap ∧ va_K κ.2.1 κ.2.2.1 κ.2.2.2.1 U ∧ jD (fun _ => True) w ∧ κ.2.2.2.2.2 U ∧ jPK κ.2.1 κ.2.2.1 κ.2.2.2.2.1 U.heap ∧ (∀ (r r' : Nat) (q q' : Nat × va_E), κ.2.2.2.2.1 r = some q → w r' = some q' → q.1 ≠ q'.1) ∧ jZ (jA w sz) U U.heap)
def jM (κ : jK) (y : MethodName) (ws : List Cond) (f mc ms : Nat) (av : List Value) (w : jW) (post : Option Value → jW → Prop) : Prop :=
  ∀ sz : Nat, Met κ.1 y ws (jR f mc ms) (jPc κ av w sz) (jQ κ post (jA w sz)) mc ms (jA w sz)
/-- the further words stay true from a state to a later one, and in a called frame -/
def jOK (κ : jK) : Prop := ((∀ s U : State, s.WarmedH U.vm → κ.2.2.2.2.2 s → κ.2.2.2.2.2 U) ∧ ∀ (U : State) (g : JFrame) (mk : MethodId) (a : Array Value), κ.2.2.2.2.2 U → κ.2.2.2.2.2 (U.calling g mk a)) ∧ κ.1.stackTraces = false
theorem jM.post {κ : jK} {y : MethodName} {ws : List Cond} {f mc ms : Nat} {av : List Value} {w : jW} {post post' : Option Value → jW → Prop} (h : jM κ y ws f mc ms av w post) (hp : ∀ v w', post v w' → post' v w') : jM κ y ws f mc ms av w post' := by
  intro sz
  have h := h sz
  unfold Met at h ⊢
  exact MetFree.mono h (fun _ _ h => h) (fun _ _ _ _ _ h => h) (fun a st o t _ h => ⟨⟨h.1.1.elim fun v h1 => h1.elim fun w' h2 => ⟨v, w', h2.1, hp v w' h2.2.1, h2.2.2⟩, h.1.2⟩, h.2⟩)

/-! pure combinators of the printed functions -/
def chk {α : Type} (N : Nat) (i : Int32) (K : Option α) : Option α := if i < 0 ∨ N ≤ i.toNatClampNeg then none else K
theorem chk_some {α : Type} {N : Nat} {i : Int32} {K : Option α} {r : α} (h : chk N i K = some r) : vp_in i N ∧ K = some r := by
  unfold chk at h
  by_cases hc : i < 0 ∨ N ≤ i.toNatClampNeg
  · rw [if_pos hc] at h; cases h
  · rw [if_neg hc] at h; exact ⟨hc, h⟩
theorem chk_ok {α : Type} {N : Nat} {i : Int32} {K : Option α} (h : vp_in i N) : chk N i K = K := if_neg h
def nz {α : Type} (i : Int32) (K : Option α) : Option α := if i = 0 then none else K
theorem nz_some {α : Type} {i : Int32} {K : Option α} {r : α} (h : nz i K = some r) : ¬ i = 0 ∧ K = some r := by
  unfold nz at h
  by_cases hc : i = 0
  · rw [if_pos hc] at h; cases h
  · rw [if_neg hc] at h; exact ⟨hc, h⟩
theorem nz_ok {α : Type} {i : Int32} {K : Option α} (h : ¬ i = 0) : nz i K = K := if_neg h
theorem ip {α : Type} {c : Prop} [Decidable c] {a b : Option α} {r : α} (hc : c) (h : (if c then a else b) = some r) : a = some r := (if_pos hc).symm.trans h
theorem im {α : Type} {c : Prop} [Decidable c] {a b : Option α} {r : α} (hc : ¬ c) (h : (if c then a else b) = some r) : b = some r := (if_neg hc).symm.trans h
theorem ob {α β : Type} {x : Option α} {f : α → Option β} {r : β} (h : x.bind f = some r) : ∃ v, x = some v ∧ f v = some r := by
  cases x with
  | none => cases h
  | some v => exact ⟨v, rfl, h⟩
def jrem (x y : Int32) : Int32 := x - x / y * y
def jushr (x y : Int32) : Int32 := (x.toUInt32 >>> (y.toUInt32 &&& Int32.toUInt32 31)).toInt32
def jmax (x y : Int32) : Int32 := if x < y then y else x
def jmin (x y : Int32) : Int32 := if y < x then y else x
def jabs (x : Int32) : Int32 := if 0 ≤ x then x else 0 - x
def nm {α β : Type} (x : α) (f : α → Option β) : Option β := f x
theorem nm_eq {α β : Type} (x : α) (f : α → Option β) : nm x f = f x := rfl
theorem sp1 {α : Type} {a v : α} (h : some a = some v) : v = a := (Option.some.inj h).symm
theorem sp2 {α β : Type} {a v : α} {b t : β} (h : some (a, b) = some (v, t)) : v = a ∧ t = b := ⟨(congrArg Prod.fst (Option.some.inj h)).symm, (congrArg Prod.snd (Option.some.inj h)).symm⟩
def b2 {α β γ : Type} (x : Option (α × β)) (f : α → β → Option γ) : Option γ := x.bind fun r => f r.1 r.2
theorem b2_some {α β γ : Type} (a : α) (b : β) (f : α → β → Option γ) : b2 (some (a, b)) f = f a b := rfl
theorem ob2 {α β γ : Type} {x : Option (α × β)} {f : α → β → Option γ} {r : γ} (h : b2 x f = some r) : ∃ v t, x = some (v, t) ∧ f v t = some r := by
  cases x with
  | none => cases h
  | some v => exact ⟨v.1, v.2, rfl, h⟩
def b2i (b : Bool) : Int32 := if b then 1 else 0
theorem b2i_z (b : Bool) : narrow .boolean (.int (b2i b)) = .int (b2i b) := by cases b <;> rfl
theorem b2i_eq (b : Bool) : b2i b = 0 ↔ b = false := by cases b <;> decide


section JROWS
variable {κ : jK} {Γ : jG} {σ : jS} {nL : Nat} {w : jW} {k n : Nat} {pc : Nat} {L : List (Option Value)} {st : List Value} {cc : ByteArray} {own : String} {ret : Option FieldType}


theorem jL.at {ls : Array Slot} (h : jL ls nL L) {i : Nat} {v : Value} (hv : L[i]? = some (some v)) : ls[i]? = some (.val v) := h.2.2 i v hv
/-- the locals as the kit lists them -/
def jv (L : List (Option Value)) : List (Nat × Value) := (List.range L.length).filterMap (fun i => match L[i]? with | some (some v) => some (i, v) | _ => none)
theorem jv_mem {i : Nat} {v : Value} : (i, v) ∈ jv L ↔ L[i]? = some (some v) := by
  unfold jv
  rw [List.mem_filterMap]
  constructor
  · rintro ⟨j, -, h⟩
    rcases hj : L[j]? with _ | (_ | u)
    · rw [hj] at h; cases h
    · rw [hj] at h; cases h
    · rw [hj] at h; cases h; exact hj
  · intro h
    refine ⟨i, List.mem_range.mpr (List.getElem?_eq_some_iff.mp h).1, ?_⟩
    rw [h]
theorem jL.has {ls : Array Slot} (h : jL ls nL L) : lv_has ls nL (jv L) := ⟨h.1, h.2.1, fun q hq => h.2.2 q.1 q.2 (jv_mem.mp hq)⟩
/-- the place before isn't a long -/
def jok (L : List (Option Value)) : Nat → Bool
  | 0 => true
  | j + 1 => match L[j]? with
    | some (some v) => v.category == 1
    | _ => true
theorem jok_cat {j : Nat} (h : jok L (j + 1) = true) {v : Value} (hv : L[j]? = some (some v)) : v.category = 1 := by
  simp only [jok, hv] at h
  simpa using h
theorem jL.st1 {ls' : Array Slot} {i : Nat} {v : Value} (hi : i < nL) (hok : jok L i = true) (h : lv_has ls' nL ((i, v) :: (jv L).filter (fun q => !(q.1 == i) && !(q.1 + 1 == i && q.2.category == 2)))) : jL ls' nL (L.set i (some v)) := by
  refine ⟨h.1, h.2.1, fun j u hj => ?_⟩
  by_cases hji : j = i
  · subst hji
    have hlt : j < L.length := by
      have := (List.getElem?_eq_some_iff.mp hj).1
      simpa using this
    rw [List.getElem?_set_self hlt] at hj
    cases hj
    exact h.2.2 (j, v) List.mem_cons_self
  · rw [List.getElem?_set_ne (Ne.symm hji)] at hj
    refine h.2.2 (j, u) (List.mem_cons_of_mem _ (List.mem_filter.mpr ⟨jv_mem.mpr hj, ?_⟩))
    have h1 : (j == i) = false := by simpa using hji
    by_cases h2 : j + 1 = i
    · subst h2
      have := jok_cat hok hj
      simp [this]
    · have h3 : (j + 1 == i) = false := by simpa using h2
      simp [h1, h3]
theorem jL.st2 {ls' : Array Slot} {i : Nat} {v : Value} (hok : jok L i = true) (h : lv_has ls' nL ((i, v) :: (jv L).filter (fun q => !(q.1 == i) && (!(q.1 == i + 1) && !(q.1 + 1 == i && q.2.category == 2))))) : jL ls' nL ((L.set i (some v)).set (i + 1) none) := by
  refine ⟨h.1, h.2.1, fun j u hj => ?_⟩
  by_cases hj1 : j = i + 1
  · subst hj1
    by_cases hlt : i + 1 < (L.set i (some v)).length
    · rw [List.getElem?_set_self hlt] at hj; cases hj
    · rw [List.getElem?_eq_none (by simpa using hlt)] at hj; cases hj
  · rw [List.getElem?_set_ne (Ne.symm hj1)] at hj
    by_cases hji : j = i
    · subst hji
      have hlt : j < L.length := by
        have := (List.getElem?_eq_some_iff.mp hj).1
        simpa using this
      rw [List.getElem?_set_self hlt] at hj
      cases hj
      exact h.2.2 (j, v) List.mem_cons_self
    · rw [List.getElem?_set_ne (Ne.symm hji)] at hj
      refine h.2.2 (j, u) (List.mem_cons_of_mem _ (List.mem_filter.mpr ⟨jv_mem.mpr hj, ?_⟩))
      have h1 : (j == i) = false := by simpa using hji
      have h4 : (j == i + 1) = false := by simpa using hj1
      by_cases h2 : j + 1 = i
      · subst h2
        have := jok_cat hok hj
        have h5 : ¬ j = j + 1 + 1 := by omega
        simp [this, h5]
      · have h3 : (j + 1 == i) = false := by simpa using h2
        simp [h1, h3, h4]
/-- fewer known locals -/
def jsub : List (Option Value) → List (Option Value) → Prop
  | [], _ => True
  | none :: a, [] => jsub a []
  | none :: a, _ :: b => jsub a b
  | some _ :: _, [] => False
  | some v :: a, x :: b => x = some v ∧ jsub a b
theorem jsub_at : ∀ (a b : List (Option Value)), jsub a b → ∀ (i : Nat) (v : Value), a[i]? = some (some v) → b[i]? = some (some v)
  | [], _, _, i, v, h => by simp at h
  | none :: a, [], hs, i, v, h => by
    cases i with
    | zero => simp at h
    | succ i => exact absurd (jsub_at a [] hs i v (by simpa using h)) (by simp)
  | none :: a, x :: b, hs, i, v, h => by
    cases i with
    | zero => simp at h
    | succ i => simpa using jsub_at a b hs i v (by simpa using h)
  | some u :: a, [], hs, i, v, h => hs.elim
  | some u :: a, x :: b, hs, i, v, h => by
    cases i with
    | zero =>
      have h1 : u = v := by simpa using h
      rw [← h1, hs.1]; rfl
    | succ i => simpa using jsub_at a b hs.2 i v (by simpa using h)
theorem j_sub {L' : List (Option Value)} (h : J κ Γ σ nL w k n pc L' st) (hs : jsub L' L) : J κ Γ σ nL w k n pc L st := by
  obtain ⟨p, e, s, m, args, below, meth, c, A⟩ := Γ
  intro H locs ls hP hD hS hl
  exact h H locs ls hP hD hS ⟨hl.1, hl.2.1, fun i v hv => hl.2.2 i v (jsub_at L' L hs i v hv)⟩
theorem j_widen {k' n' : Nat} (h1 : k ≤ k') (h2 : n ≤ n') (h : J κ Γ σ nL w k' n' pc L st) : J κ Γ σ nL w k n pc L st := by
  obtain ⟨p, e, s, m, args, below, meth, c, A⟩ := Γ
  intro H locs ls hP hD hS hl
  exact W.widen h1 h2 (h H locs ls hP hD hS hl)
theorem j_world {w' : jW} (e : w = w') (h : J κ Γ σ nL w' k n pc L st) : J κ Γ σ nL w k n pc L st := e ▸ h

theorem j_iconst (C : jC κ Γ cc nL own ret) {x : Int} {v : Int32} (hd : decode cc pc = .ok (.iconst x, 1)) (hv : Int32.ofInt x = v) (h : J κ Γ σ nL w k n (pc + 1) L (.int v :: st)) : J κ Γ σ nL w k n pc L st := by
  obtain ⟨p, e, s, m, args, below, meth, c, A⟩ := Γ
  obtain ⟨hx, hb, hml, hown, hts, hA, hK, -⟩ := C
  intro H locs ls hP hD hS hl
  exact lv_iconst hx hb hd hv (h H locs ls hP hD hS hl)
theorem j_bipush (C : jC κ Γ cc nL own ret) {x : Int} {v : Int32} (hd : decode cc pc = .ok (.bipush x, 2)) (hv : (Int8.ofInt x).toInt32 = v) (h : J κ Γ σ nL w k n (pc + 2) L (.int v :: st)) : J κ Γ σ nL w k n pc L st := by
  obtain ⟨p, e, s, m, args, below, meth, c, A⟩ := Γ
  obtain ⟨hx, hb, hml, hown, hts, hA, hK, -⟩ := C
  intro H locs ls hP hD hS hl
  exact lv_bipush hx hb hd hv (h H locs ls hP hD hS hl)
theorem j_sipush (C : jC κ Γ cc nL own ret) {x : Int} {v : Int32} (hd : decode cc pc = .ok (.sipush x, 3)) (hv : (Int16.ofInt x).toInt32 = v) (h : J κ Γ σ nL w k n (pc + 3) L (.int v :: st)) : J κ Γ σ nL w k n pc L st := by
  obtain ⟨p, e, s, m, args, below, meth, c, A⟩ := Γ
  obtain ⟨hx, hb, hml, hown, hts, hA, hK, -⟩ := C
  intro H locs ls hP hD hS hl
  exact lv_sipush hx hb hd hv (h H locs ls hP hD hS hl)
theorem j_lconst (C : jC κ Γ cc nL own ret) {x : Fin 2} {v : Int64} (hd : decode cc pc = .ok (.lconst x, 1)) (hv : Int64.ofNat (x : Nat) = v) (h : J κ Γ σ nL w k n (pc + 1) L (.long v :: st)) : J κ Γ σ nL w k n pc L st := by
  obtain ⟨p, e, s, m, args, below, meth, c, A⟩ := Γ
  obtain ⟨hx, hb, hml, hown, hts, hA, hK, -⟩ := C
  intro H locs ls hP hD hS hl
  exact lv_lconst hx hb hd hv (h H locs ls hP hD hS hl)
theorem j_iload_n (C : jC κ Γ cc nL own ret) {j : Fin 4} {i : Nat} {x : Int32} (hd : decode cc pc = .ok (.iload_n j, 1)) (hi : (j : Nat) = i) (hv : L[i]? = some (some (.int x))) (h : J κ Γ σ nL w k n (pc + 1) L (.int x :: st)) : J κ Γ σ nL w k n pc L st := by
  obtain ⟨p, e, s, m, args, below, meth, c, A⟩ := Γ
  obtain ⟨hx, hb, hml, hown, hts, hA, hK, -⟩ := C
  intro H locs ls hP hD hS hl
  exact lv_iload_n hx hb hd hi (hl.at hv) (h H locs ls hP hD hS hl)
theorem j_iload (C : jC κ Γ cc nL own ret) {i : Nat} {x : Int32} (hd : decode cc pc = .ok (.iload i, 2)) (hv : L[i]? = some (some (.int x))) (h : J κ Γ σ nL w k n (pc + 2) L (.int x :: st)) : J κ Γ σ nL w k n pc L st := by
  obtain ⟨p, e, s, m, args, below, meth, c, A⟩ := Γ
  obtain ⟨hx, hb, hml, hown, hts, hA, hK, -⟩ := C
  intro H locs ls hP hD hS hl
  exact lv_iload hx hb hd (hl.at hv) (h H locs ls hP hD hS hl)
theorem j_lload_n (C : jC κ Γ cc nL own ret) {j : Fin 4} {i : Nat} {x : Int64} (hd : decode cc pc = .ok (.lload_n j, 1)) (hi : (j : Nat) = i) (hv : L[i]? = some (some (.long x))) (h : J κ Γ σ nL w k n (pc + 1) L (.long x :: st)) : J κ Γ σ nL w k n pc L st := by
  obtain ⟨p, e, s, m, args, below, meth, c, A⟩ := Γ
  obtain ⟨hx, hb, hml, hown, hts, hA, hK, -⟩ := C
  intro H locs ls hP hD hS hl
  exact lv_lload_n hx hb hd hi (hl.at hv) (h H locs ls hP hD hS hl)
theorem j_lload (C : jC κ Γ cc nL own ret) {i : Nat} {x : Int64} (hd : decode cc pc = .ok (.lload i, 2)) (hv : L[i]? = some (some (.long x))) (h : J κ Γ σ nL w k n (pc + 2) L (.long x :: st)) : J κ Γ σ nL w k n pc L st := by
  obtain ⟨p, e, s, m, args, below, meth, c, A⟩ := Γ
  obtain ⟨hx, hb, hml, hown, hts, hA, hK, -⟩ := C
  intro H locs ls hP hD hS hl
  exact lv_lload hx hb hd (hl.at hv) (h H locs ls hP hD hS hl)
theorem j_aload_n (C : jC κ Γ cc nL own ret) {j : Fin 4} {i : Nat} {x : Nat} (hd : decode cc pc = .ok (.aload_n j, 1)) (hi : (j : Nat) = i) (hv : L[i]? = some (some (.ref x))) (h : J κ Γ σ nL w k n (pc + 1) L (.ref x :: st)) : J κ Γ σ nL w k n pc L st := by
  obtain ⟨p, e, s, m, args, below, meth, c, A⟩ := Γ
  obtain ⟨hx, hb, hml, hown, hts, hA, hK, -⟩ := C
  intro H locs ls hP hD hS hl
  exact lv_aload_n hx hb hd hi (hl.at hv) (h H locs ls hP hD hS hl)
theorem j_aload (C : jC κ Γ cc nL own ret) {i : Nat} {x : Nat} (hd : decode cc pc = .ok (.aload i, 2)) (hv : L[i]? = some (some (.ref x))) (h : J κ Γ σ nL w k n (pc + 2) L (.ref x :: st)) : J κ Γ σ nL w k n pc L st := by
  obtain ⟨p, e, s, m, args, below, meth, c, A⟩ := Γ
  obtain ⟨hx, hb, hml, hown, hts, hA, hK, -⟩ := C
  intro H locs ls hP hD hS hl
  exact lv_aload hx hb hd (hl.at hv) (h H locs ls hP hD hS hl)
theorem j_istore_n (C : jC κ Γ cc nL own ret) {j : Fin 4} {i : Nat} {x : Int32} (hd : decode cc pc = .ok (.istore_n j, 1)) (hi : (j : Nat) = i) (hn : i < nL) (hok : jok L i = true) (h : J κ Γ σ nL w k n (pc + 1) (L.set i (some (.int x))) st) : J κ Γ σ nL w k n pc L (.int x :: st) := by
  obtain ⟨p, e, s, m, args, below, meth, c, A⟩ := Γ
  obtain ⟨hx, hb, hml, hown, hts, hA, hK, -⟩ := C
  intro H locs ls hP hD hS hl
  exact lv_istore_n hx hb hd hi hl.has hn rfl (fun ls' hl' => h H locs ls' hP hD hS (jL.st1 hn hok hl'))
theorem j_istore (C : jC κ Γ cc nL own ret) {i : Nat} {x : Int32} (hd : decode cc pc = .ok (.istore i, 2))  (hn : i < nL) (hok : jok L i = true) (h : J κ Γ σ nL w k n (pc + 2) (L.set i (some (.int x))) st) : J κ Γ σ nL w k n pc L (.int x :: st) := by
  obtain ⟨p, e, s, m, args, below, meth, c, A⟩ := Γ
  obtain ⟨hx, hb, hml, hown, hts, hA, hK, -⟩ := C
  intro H locs ls hP hD hS hl
  exact lv_istore hx hb hd hl.has hn rfl (fun ls' hl' => h H locs ls' hP hD hS (jL.st1 hn hok hl'))
theorem j_astore_n (C : jC κ Γ cc nL own ret) {j : Fin 4} {i : Nat} {x : Nat} (hd : decode cc pc = .ok (.astore_n j, 1)) (hi : (j : Nat) = i) (hn : i < nL) (hok : jok L i = true) (h : J κ Γ σ nL w k n (pc + 1) (L.set i (some (.ref x))) st) : J κ Γ σ nL w k n pc L (.ref x :: st) := by
  obtain ⟨p, e, s, m, args, below, meth, c, A⟩ := Γ
  obtain ⟨hx, hb, hml, hown, hts, hA, hK, -⟩ := C
  intro H locs ls hP hD hS hl
  exact lv_astore_n hx hb hd hi hl.has hn rfl (fun ls' hl' => h H locs ls' hP hD hS (jL.st1 hn hok hl'))
theorem j_astore (C : jC κ Γ cc nL own ret) {i : Nat} {x : Nat} (hd : decode cc pc = .ok (.astore i, 2))  (hn : i < nL) (hok : jok L i = true) (h : J κ Γ σ nL w k n (pc + 2) (L.set i (some (.ref x))) st) : J κ Γ σ nL w k n pc L (.ref x :: st) := by
  obtain ⟨p, e, s, m, args, below, meth, c, A⟩ := Γ
  obtain ⟨hx, hb, hml, hown, hts, hA, hK, -⟩ := C
  intro H locs ls hP hD hS hl
  exact lv_astore hx hb hd hl.has hn rfl (fun ls' hl' => h H locs ls' hP hD hS (jL.st1 hn hok hl'))
theorem j_lstore_n (C : jC κ Γ cc nL own ret) {j : Fin 4} {i : Nat} {x : Int64} (hd : decode cc pc = .ok (.lstore_n j, 1)) (hi : (j : Nat) = i) (hn : i + 1 < nL) (hok : jok L i = true) (h : J κ Γ σ nL w k n (pc + 1) ((L.set i (some (.long x))).set (i + 1) none) st) : J κ Γ σ nL w k n pc L (.long x :: st) := by
  obtain ⟨p, e, s, m, args, below, meth, c, A⟩ := Γ
  obtain ⟨hx, hb, hml, hown, hts, hA, hK, -⟩ := C
  intro H locs ls hP hD hS hl
  exact lv_lstore_n hx hb hd hi hl.has hn rfl (fun ls' hl' => h H locs ls' hP hD hS (jL.st2 hok hl'))
theorem j_lstore (C : jC κ Γ cc nL own ret) {i : Nat} {x : Int64} (hd : decode cc pc = .ok (.lstore i, 2))  (hn : i + 1 < nL) (hok : jok L i = true) (h : J κ Γ σ nL w k n (pc + 2) ((L.set i (some (.long x))).set (i + 1) none) st) : J κ Γ σ nL w k n pc L (.long x :: st) := by
  obtain ⟨p, e, s, m, args, below, meth, c, A⟩ := Γ
  obtain ⟨hx, hb, hml, hown, hts, hA, hK, -⟩ := C
  intro H locs ls hP hD hS hl
  exact lv_lstore hx hb hd hl.has hn rfl (fun ls' hl' => h H locs ls' hP hD hS (jL.st2 hok hl'))
theorem j_iinc (C : jC κ Γ cc nL own ret) {i : Nat} {a : Int} {x : Int32} (v : Int32) (hd : decode cc pc = .ok (.iinc i a, 3)) (hv : L[i]? = some (some (.int x))) (hx2 : x + Int32.ofInt a = v) (hn : i < nL) (hok : jok L i = true) (h : J κ Γ σ nL w k n (pc + 3) (L.set i (some (.int v))) st) : J κ Γ σ nL w k n pc L st := by
  obtain ⟨p, e, s, m, args, below, meth, c, A⟩ := Γ
  obtain ⟨hx, hb, hml, hown, hts, hA, hK, -⟩ := C
  intro H locs ls hP hD hS hl
  obtain ⟨kk, hkk⟩ := List.getElem?_of_mem (jv_mem.mpr hv)
  exact lv_iinc hx hb hd hl.has hkk hx2 hn rfl (fun ls' hl' => h H locs ls' hP hD hS (jL.st1 hn hok hl'))
theorem j_iincW (C : jC κ Γ cc nL own ret) {i : Nat} {a : Int} {x : Int32} (v : Int32) (hd : decode cc pc = .ok (.iinc i a, 6)) (hv : L[i]? = some (some (.int x))) (hx2 : x + Int32.ofInt a = v) (hn : i < nL) (hok : jok L i = true) (h : J κ Γ σ nL w k n (pc + 6) (L.set i (some (.int v))) st) : J κ Γ σ nL w k n pc L st := by
  obtain ⟨p, e, s, m, args, below, meth, c, A⟩ := Γ
  obtain ⟨hx, hb, hml, hown, hts, hA, hK, -⟩ := C
  intro H locs ls hP hD hS hl
  obtain ⟨kk, hkk⟩ := List.getElem?_of_mem (jv_mem.mpr hv)
  exact lv_iincW hx hb hd hl.has hkk hx2 hn rfl (fun ls' hl' => h H locs ls' hP hD hS (jL.st1 hn hok hl'))
theorem j_iadd (C : jC κ Γ cc nL own ret) {x y : Int32} (hd : decode cc pc = .ok (.iadd, 1))  (h : J κ Γ σ nL w k n (pc + 1) L (.int (x + y) :: st)) : J κ Γ σ nL w k n pc L (.int y :: .int x :: st) := by
  obtain ⟨p, e, s, m, args, below, meth, c, A⟩ := Γ
  obtain ⟨hx, hb, hml, hown, hts, hA, hK, -⟩ := C
  intro H locs ls hP hD hS hl
  exact lv_iadd hx hb hd (h H locs ls hP hD hS hl)
theorem j_isub (C : jC κ Γ cc nL own ret) {x y : Int32} (hd : decode cc pc = .ok (.isub, 1))  (h : J κ Γ σ nL w k n (pc + 1) L (.int (x - y) :: st)) : J κ Γ σ nL w k n pc L (.int y :: .int x :: st) := by
  obtain ⟨p, e, s, m, args, below, meth, c, A⟩ := Γ
  obtain ⟨hx, hb, hml, hown, hts, hA, hK, -⟩ := C
  intro H locs ls hP hD hS hl
  exact lv_isub hx hb hd (h H locs ls hP hD hS hl)
theorem j_imul (C : jC κ Γ cc nL own ret) {x y : Int32} (hd : decode cc pc = .ok (.imul, 1))  (h : J κ Γ σ nL w k n (pc + 1) L (.int (x * y) :: st)) : J κ Γ σ nL w k n pc L (.int y :: .int x :: st) := by
  obtain ⟨p, e, s, m, args, below, meth, c, A⟩ := Γ
  obtain ⟨hx, hb, hml, hown, hts, hA, hK, -⟩ := C
  intro H locs ls hP hD hS hl
  exact lv_imul hx hb hd (h H locs ls hP hD hS hl)
theorem j_iand (C : jC κ Γ cc nL own ret) {x y : Int32} (hd : decode cc pc = .ok (.iand, 1))  (h : J κ Γ σ nL w k n (pc + 1) L (.int (x &&& y) :: st)) : J κ Γ σ nL w k n pc L (.int y :: .int x :: st) := by
  obtain ⟨p, e, s, m, args, below, meth, c, A⟩ := Γ
  obtain ⟨hx, hb, hml, hown, hts, hA, hK, -⟩ := C
  intro H locs ls hP hD hS hl
  exact lv_iand hx hb hd (h H locs ls hP hD hS hl)
theorem j_ior (C : jC κ Γ cc nL own ret) {x y : Int32} (hd : decode cc pc = .ok (.ior, 1))  (h : J κ Γ σ nL w k n (pc + 1) L (.int (x ||| y) :: st)) : J κ Γ σ nL w k n pc L (.int y :: .int x :: st) := by
  obtain ⟨p, e, s, m, args, below, meth, c, A⟩ := Γ
  obtain ⟨hx, hb, hml, hown, hts, hA, hK, -⟩ := C
  intro H locs ls hP hD hS hl
  exact lv_ior hx hb hd (h H locs ls hP hD hS hl)
theorem j_ixor (C : jC κ Γ cc nL own ret) {x y : Int32} (hd : decode cc pc = .ok (.ixor, 1))  (h : J κ Γ σ nL w k n (pc + 1) L (.int (x ^^^ y) :: st)) : J κ Γ σ nL w k n pc L (.int y :: .int x :: st) := by
  obtain ⟨p, e, s, m, args, below, meth, c, A⟩ := Γ
  obtain ⟨hx, hb, hml, hown, hts, hA, hK, -⟩ := C
  intro H locs ls hP hD hS hl
  exact lv_ixor hx hb hd (h H locs ls hP hD hS hl)
theorem j_ishl (C : jC κ Γ cc nL own ret) {x y : Int32} (hd : decode cc pc = .ok (.ishl, 1))  (h : J κ Γ σ nL w k n (pc + 1) L (.int (x <<< (y &&& 31)) :: st)) : J κ Γ σ nL w k n pc L (.int y :: .int x :: st) := by
  obtain ⟨p, e, s, m, args, below, meth, c, A⟩ := Γ
  obtain ⟨hx, hb, hml, hown, hts, hA, hK, -⟩ := C
  intro H locs ls hP hD hS hl
  exact lv_ishl hx hb hd (h H locs ls hP hD hS hl)
theorem j_ishr (C : jC κ Γ cc nL own ret) {x y : Int32} (hd : decode cc pc = .ok (.ishr, 1))  (h : J κ Γ σ nL w k n (pc + 1) L (.int (x >>> (y &&& 31)) :: st)) : J κ Γ σ nL w k n pc L (.int y :: .int x :: st) := by
  obtain ⟨p, e, s, m, args, below, meth, c, A⟩ := Γ
  obtain ⟨hx, hb, hml, hown, hts, hA, hK, -⟩ := C
  intro H locs ls hP hD hS hl
  exact lv_ishr hx hb hd (h H locs ls hP hD hS hl)
theorem j_idiv (C : jC κ Γ cc nL own ret) {x y : Int32} (hd : decode cc pc = .ok (.idiv, 1)) (hne : ¬ y = 0) (h : J κ Γ σ nL w k n (pc + 1) L (.int (x / y) :: st)) : J κ Γ σ nL w k n pc L (.int y :: .int x :: st) := by
  obtain ⟨p, e, s, m, args, below, meth, c, A⟩ := Γ
  obtain ⟨hx, hb, hml, hown, hts, hA, hK, -⟩ := C
  intro H locs ls hP hD hS hl
  exact lv_idiv hx hb hd hne (h H locs ls hP hD hS hl)
theorem j_irem (C : jC κ Γ cc nL own ret) {x y : Int32} (hd : decode cc pc = .ok (.irem, 1)) (hne : ¬ y = 0) (h : J κ Γ σ nL w k n (pc + 1) L (.int (jrem x y) :: st)) : J κ Γ σ nL w k n pc L (.int y :: .int x :: st) := by
  obtain ⟨p, e, s, m, args, below, meth, c, A⟩ := Γ
  obtain ⟨hx, hb, hml, hown, hts, hA, hK, -⟩ := C
  intro H locs ls hP hD hS hl
  exact lv_irem hx hb hd hne (h H locs ls hP hD hS hl)
theorem j_ineg (C : jC κ Γ cc nL own ret) {x : Int32} (hd : decode cc pc = .ok (.ineg, 1))  (h : J κ Γ σ nL w k n (pc + 1) L (.int (-x) :: st)) : J κ Γ σ nL w k n pc L (.int x :: st) := by
  obtain ⟨p, e, s, m, args, below, meth, c, A⟩ := Γ
  obtain ⟨hx, hb, hml, hown, hts, hA, hK, -⟩ := C
  intro H locs ls hP hD hS hl
  exact lv_ineg hx hb hd (h H locs ls hP hD hS hl)
theorem j_iushr (C : jC κ Γ cc nL own ret) {x y : Int32} (hd : decode cc pc = .ok (.iushr, 1))  (h : J κ Γ σ nL w k n (pc + 1) L (.int (jushr x y) :: st)) : J κ Γ σ nL w k n pc L (.int y :: .int x :: st) := by
  obtain ⟨p, e, s, m, args, below, meth, c, A⟩ := Γ
  obtain ⟨hx, hb, hml, hown, hts, hA, hK, -⟩ := C
  intro H locs ls hP hD hS hl
  exact lv_iushr hx hb hd rfl (h H locs ls hP hD hS hl)
theorem j_i2l (C : jC κ Γ cc nL own ret) {x : Int32} (hd : decode cc pc = .ok (.i2l, 1))  (h : J κ Γ σ nL w k n (pc + 1) L (.long x.toInt64 :: st)) : J κ Γ σ nL w k n pc L (.int x :: st) := by
  obtain ⟨p, e, s, m, args, below, meth, c, A⟩ := Γ
  obtain ⟨hx, hb, hml, hown, hts, hA, hK, -⟩ := C
  intro H locs ls hP hD hS hl
  exact lv_i2l hx hb hd rfl (h H locs ls hP hD hS hl)
theorem j_l2i (C : jC κ Γ cc nL own ret) {x : Int64} (hd : decode cc pc = .ok (.l2i, 1))  (h : J κ Γ σ nL w k n (pc + 1) L (.int x.toInt32 :: st)) : J κ Γ σ nL w k n pc L (.long x :: st) := by
  obtain ⟨p, e, s, m, args, below, meth, c, A⟩ := Γ
  obtain ⟨hx, hb, hml, hown, hts, hA, hK, -⟩ := C
  intro H locs ls hP hD hS hl
  exact lv_l2i hx hb hd rfl (h H locs ls hP hD hS hl)
theorem j_i2b (C : jC κ Γ cc nL own ret) {x : Int32} (hd : decode cc pc = .ok (.i2b, 1))  (h : J κ Γ σ nL w k n (pc + 1) L (.int x.toInt8.toInt32 :: st)) : J κ Γ σ nL w k n pc L (.int x :: st) := by
  obtain ⟨p, e, s, m, args, below, meth, c, A⟩ := Γ
  obtain ⟨hx, hb, hml, hown, hts, hA, hK, -⟩ := C
  intro H locs ls hP hD hS hl
  exact lv_i2b hx hb hd rfl (h H locs ls hP hD hS hl)
theorem j_i2s (C : jC κ Γ cc nL own ret) {x : Int32} (hd : decode cc pc = .ok (.i2s, 1))  (h : J κ Γ σ nL w k n (pc + 1) L (.int x.toInt16.toInt32 :: st)) : J κ Γ σ nL w k n pc L (.int x :: st) := by
  obtain ⟨p, e, s, m, args, below, meth, c, A⟩ := Γ
  obtain ⟨hx, hb, hml, hown, hts, hA, hK, -⟩ := C
  intro H locs ls hP hD hS hl
  exact lv_i2s hx hb hd rfl (h H locs ls hP hD hS hl)
theorem j_i2c (C : jC κ Γ cc nL own ret) {x : Int32} {v : Int32} (hd : decode cc pc = .ok (.i2c, 1)) (hv : (x.toUInt32 % 65536).toInt32 = v) (h : J κ Γ σ nL w k n (pc + 1) L (.int v :: st)) : J κ Γ σ nL w k n pc L (.int x :: st) := by
  obtain ⟨p, e, s, m, args, below, meth, c, A⟩ := Γ
  obtain ⟨hx, hb, hml, hown, hts, hA, hK, -⟩ := C
  intro H locs ls hP hD hS hl
  exact lv_i2c hx hb hd hv (h H locs ls hP hD hS hl)
theorem j_ladd (C : jC κ Γ cc nL own ret) {x y : Int64} (hd : decode cc pc = .ok (.ladd, 1))  (h : J κ Γ σ nL w k n (pc + 1) L (.long (x + y) :: st)) : J κ Γ σ nL w k n pc L (.long y :: .long x :: st) := by
  obtain ⟨p, e, s, m, args, below, meth, c, A⟩ := Γ
  obtain ⟨hx, hb, hml, hown, hts, hA, hK, -⟩ := C
  intro H locs ls hP hD hS hl
  exact lv_ladd hx hb hd (h H locs ls hP hD hS hl)
theorem j_lsub (C : jC κ Γ cc nL own ret) {x y : Int64} (hd : decode cc pc = .ok (.lsub, 1))  (h : J κ Γ σ nL w k n (pc + 1) L (.long (x - y) :: st)) : J κ Γ σ nL w k n pc L (.long y :: .long x :: st) := by
  obtain ⟨p, e, s, m, args, below, meth, c, A⟩ := Γ
  obtain ⟨hx, hb, hml, hown, hts, hA, hK, -⟩ := C
  intro H locs ls hP hD hS hl
  exact lv_lsub hx hb hd (h H locs ls hP hD hS hl)
theorem j_lmul (C : jC κ Γ cc nL own ret) {x y : Int64} (hd : decode cc pc = .ok (.lmul, 1))  (h : J κ Γ σ nL w k n (pc + 1) L (.long (x * y) :: st)) : J κ Γ σ nL w k n pc L (.long y :: .long x :: st) := by
  obtain ⟨p, e, s, m, args, below, meth, c, A⟩ := Γ
  obtain ⟨hx, hb, hml, hown, hts, hA, hK, -⟩ := C
  intro H locs ls hP hD hS hl
  exact lv_lmul hx hb hd (h H locs ls hP hD hS hl)
theorem j_land (C : jC κ Γ cc nL own ret) {x y : Int64} (hd : decode cc pc = .ok (.land, 1))  (h : J κ Γ σ nL w k n (pc + 1) L (.long (x &&& y) :: st)) : J κ Γ σ nL w k n pc L (.long y :: .long x :: st) := by
  obtain ⟨p, e, s, m, args, below, meth, c, A⟩ := Γ
  obtain ⟨hx, hb, hml, hown, hts, hA, hK, -⟩ := C
  intro H locs ls hP hD hS hl
  exact lv_land hx hb hd (h H locs ls hP hD hS hl)
theorem j_lor (C : jC κ Γ cc nL own ret) {x y : Int64} (hd : decode cc pc = .ok (.lor, 1))  (h : J κ Γ σ nL w k n (pc + 1) L (.long (x ||| y) :: st)) : J κ Γ σ nL w k n pc L (.long y :: .long x :: st) := by
  obtain ⟨p, e, s, m, args, below, meth, c, A⟩ := Γ
  obtain ⟨hx, hb, hml, hown, hts, hA, hK, -⟩ := C
  intro H locs ls hP hD hS hl
  exact lv_lor hx hb hd (h H locs ls hP hD hS hl)
theorem j_lxor (C : jC κ Γ cc nL own ret) {x y : Int64} (hd : decode cc pc = .ok (.lxor, 1))  (h : J κ Γ σ nL w k n (pc + 1) L (.long (x ^^^ y) :: st)) : J κ Γ σ nL w k n pc L (.long y :: .long x :: st) := by
  obtain ⟨p, e, s, m, args, below, meth, c, A⟩ := Γ
  obtain ⟨hx, hb, hml, hown, hts, hA, hK, -⟩ := C
  intro H locs ls hP hD hS hl
  exact lv_lxor hx hb hd (h H locs ls hP hD hS hl)
theorem j_lshl (C : jC κ Γ cc nL own ret) {x : Int64} {y : Int32} (hd : decode cc pc = .ok (.lshl, 1))  (h : J κ Γ σ nL w k n (pc + 1) L (.long (x <<< (y.toInt64 &&& 63)) :: st)) : J κ Γ σ nL w k n pc L (.int y :: .long x :: st) := by
  obtain ⟨p, e, s, m, args, below, meth, c, A⟩ := Γ
  obtain ⟨hx, hb, hml, hown, hts, hA, hK, -⟩ := C
  intro H locs ls hP hD hS hl
  exact lv_lshl hx hb hd rfl (h H locs ls hP hD hS hl)
theorem j_dup (C : jC κ Γ cc nL own ret) {a : Value} (hd : decode cc pc = .ok (.dup, 1)) (hc : a.category = 1) (h : J κ Γ σ nL w k n (pc + 1) L (a :: a :: st)) : J κ Γ σ nL w k n pc L (a :: st) := by
  obtain ⟨p, e, s, m, args, below, meth, c, A⟩ := Γ
  obtain ⟨hx, hb, hml, hown, hts, hA, hK, -⟩ := C
  intro H locs ls hP hD hS hl
  exact lv_dup hx hb hd hc (h H locs ls hP hD hS hl)
theorem j_pop (C : jC κ Γ cc nL own ret) {a : Value} (hd : decode cc pc = .ok (.pop, 1)) (hc : a.category = 1) (h : J κ Γ σ nL w k n (pc + 1) L st) : J κ Γ σ nL w k n pc L (a :: st) := by
  obtain ⟨p, e, s, m, args, below, meth, c, A⟩ := Γ
  obtain ⟨hx, hb, hml, hown, hts, hA, hK, -⟩ := C
  intro H locs ls hP hD hS hl
  exact lv_pop hx hb hd hc (h H locs ls hP hD hS hl)
theorem j_dup_x1 (C : jC κ Γ cc nL own ret) {a b : Value} (hd : decode cc pc = .ok (.dup_x1, 1)) (hc : a.category = 1) (hc2 : b.category = 1) (h : J κ Γ σ nL w k n (pc + 1) L (a :: b :: a :: st)) : J κ Γ σ nL w k n pc L (a :: b :: st) := by
  obtain ⟨p, e, s, m, args, below, meth, c, A⟩ := Γ
  obtain ⟨hx, hb, hml, hown, hts, hA, hK, -⟩ := C
  intro H locs ls hP hD hS hl
  exact lv_dup_x1 hx hb hd hc hc2 (h H locs ls hP hD hS hl)
theorem j_dup2 (C : jC κ Γ cc nL own ret) {a b : Value} (hd : decode cc pc = .ok (.dup2, 1)) (hc : a.category = 1) (hc2 : b.category = 1) (h : J κ Γ σ nL w k n (pc + 1) L (a :: b :: a :: b :: st)) : J κ Γ σ nL w k n pc L (a :: b :: st) := by
  obtain ⟨p, e, s, m, args, below, meth, c, A⟩ := Γ
  obtain ⟨hx, hb, hml, hown, hts, hA, hK, -⟩ := C
  intro H locs ls hP hD hS hl
  exact lv_dup2_11 hx hb hd hc hc2 (h H locs ls hP hD hS hl)
theorem j_null (C : jC κ Γ cc nL own ret)  (hd : decode cc pc = .ok (.aconst_null, 1))  (h : J κ Γ σ nL w k n (pc + 1) L (.null :: st)) : J κ Γ σ nL w k n pc L st := by
  obtain ⟨p, e, s, m, args, below, meth, c, A⟩ := Γ
  obtain ⟨hx, hb, hml, hown, hts, hA, hK, -⟩ := C
  intro H locs ls hP hD hS hl
  exact lv_null hx hb hd (h H locs ls hP hD hS hl)
theorem j_if_eq (C : jC κ Γ cc nL own ret) {x : Int32} {off : Int} {tgt : Nat} (hd : decode cc pc = .ok (.ifCond .eq off, 3)) (ht : (pc : Int) + off = (tgt : Int)) (kt : x = 0 → J κ Γ σ nL w k n tgt L st) (kf : ¬ (x = 0) → J κ Γ σ nL w k n (pc + 3) L st) : J κ Γ σ nL w k n pc L (.int x :: st) := by
  obtain ⟨p, e, s, m, args, below, meth, c, A⟩ := Γ
  obtain ⟨hx, hb, hml, hown, hts, hA, hK, -⟩ := C
  intro H locs ls hP hD hS hl
  exact lv_if_eq hx hb hd ht (fun q => kt q H locs ls hP hD hS hl) (fun q => kf q H locs ls hP hD hS hl)
theorem j_icmp_eq (C : jC κ Γ cc nL own ret) {x y : Int32} {off : Int} {tgt : Nat} (hd : decode cc pc = .ok (.if_icmp .eq off, 3)) (ht : (pc : Int) + off = (tgt : Int)) (kt : x = y → J κ Γ σ nL w k n tgt L st) (kf : ¬ (x = y) → J κ Γ σ nL w k n (pc + 3) L st) : J κ Γ σ nL w k n pc L (.int y :: .int x :: st) := by
  obtain ⟨p, e, s, m, args, below, meth, c, A⟩ := Γ
  obtain ⟨hx, hb, hml, hown, hts, hA, hK, -⟩ := C
  intro H locs ls hP hD hS hl
  exact lv_icmp_eq hx hb hd ht (fun q => kt q H locs ls hP hD hS hl) (fun q => kf q H locs ls hP hD hS hl)
theorem j_if_ne (C : jC κ Γ cc nL own ret) {x : Int32} {off : Int} {tgt : Nat} (hd : decode cc pc = .ok (.ifCond .ne off, 3)) (ht : (pc : Int) + off = (tgt : Int)) (kt : ¬ x = 0 → J κ Γ σ nL w k n tgt L st) (kf : x = 0 → J κ Γ σ nL w k n (pc + 3) L st) : J κ Γ σ nL w k n pc L (.int x :: st) := by
  obtain ⟨p, e, s, m, args, below, meth, c, A⟩ := Γ
  obtain ⟨hx, hb, hml, hown, hts, hA, hK, -⟩ := C
  intro H locs ls hP hD hS hl
  exact lv_if_ne hx hb hd ht (fun q => kt q H locs ls hP hD hS hl) (fun q => kf q H locs ls hP hD hS hl)
theorem j_icmp_ne (C : jC κ Γ cc nL own ret) {x y : Int32} {off : Int} {tgt : Nat} (hd : decode cc pc = .ok (.if_icmp .ne off, 3)) (ht : (pc : Int) + off = (tgt : Int)) (kt : ¬ x = y → J κ Γ σ nL w k n tgt L st) (kf : x = y → J κ Γ σ nL w k n (pc + 3) L st) : J κ Γ σ nL w k n pc L (.int y :: .int x :: st) := by
  obtain ⟨p, e, s, m, args, below, meth, c, A⟩ := Γ
  obtain ⟨hx, hb, hml, hown, hts, hA, hK, -⟩ := C
  intro H locs ls hP hD hS hl
  exact lv_icmp_ne hx hb hd ht (fun q => kt q H locs ls hP hD hS hl) (fun q => kf q H locs ls hP hD hS hl)
theorem j_if_lt (C : jC κ Γ cc nL own ret) {x : Int32} {off : Int} {tgt : Nat} (hd : decode cc pc = .ok (.ifCond .lt off, 3)) (ht : (pc : Int) + off = (tgt : Int)) (kt : x < 0 → J κ Γ σ nL w k n tgt L st) (kf : ¬ (x < 0) → J κ Γ σ nL w k n (pc + 3) L st) : J κ Γ σ nL w k n pc L (.int x :: st) := by
  obtain ⟨p, e, s, m, args, below, meth, c, A⟩ := Γ
  obtain ⟨hx, hb, hml, hown, hts, hA, hK, -⟩ := C
  intro H locs ls hP hD hS hl
  exact lv_if_lt hx hb hd ht (fun q => kt q H locs ls hP hD hS hl) (fun q => kf q H locs ls hP hD hS hl)
theorem j_icmp_lt (C : jC κ Γ cc nL own ret) {x y : Int32} {off : Int} {tgt : Nat} (hd : decode cc pc = .ok (.if_icmp .lt off, 3)) (ht : (pc : Int) + off = (tgt : Int)) (kt : x < y → J κ Γ σ nL w k n tgt L st) (kf : ¬ (x < y) → J κ Γ σ nL w k n (pc + 3) L st) : J κ Γ σ nL w k n pc L (.int y :: .int x :: st) := by
  obtain ⟨p, e, s, m, args, below, meth, c, A⟩ := Γ
  obtain ⟨hx, hb, hml, hown, hts, hA, hK, -⟩ := C
  intro H locs ls hP hD hS hl
  exact lv_icmp_lt hx hb hd ht (fun q => kt q H locs ls hP hD hS hl) (fun q => kf q H locs ls hP hD hS hl)
theorem j_if_ge (C : jC κ Γ cc nL own ret) {x : Int32} {off : Int} {tgt : Nat} (hd : decode cc pc = .ok (.ifCond .ge off, 3)) (ht : (pc : Int) + off = (tgt : Int)) (kt : 0 ≤ x → J κ Γ σ nL w k n tgt L st) (kf : ¬ (0 ≤ x) → J κ Γ σ nL w k n (pc + 3) L st) : J κ Γ σ nL w k n pc L (.int x :: st) := by
  obtain ⟨p, e, s, m, args, below, meth, c, A⟩ := Γ
  obtain ⟨hx, hb, hml, hown, hts, hA, hK, -⟩ := C
  intro H locs ls hP hD hS hl
  exact lv_if_ge hx hb hd ht (fun q => kt q H locs ls hP hD hS hl) (fun q => kf q H locs ls hP hD hS hl)
theorem j_icmp_ge (C : jC κ Γ cc nL own ret) {x y : Int32} {off : Int} {tgt : Nat} (hd : decode cc pc = .ok (.if_icmp .ge off, 3)) (ht : (pc : Int) + off = (tgt : Int)) (kt : y ≤ x → J κ Γ σ nL w k n tgt L st) (kf : ¬ (y ≤ x) → J κ Γ σ nL w k n (pc + 3) L st) : J κ Γ σ nL w k n pc L (.int y :: .int x :: st) := by
  obtain ⟨p, e, s, m, args, below, meth, c, A⟩ := Γ
  obtain ⟨hx, hb, hml, hown, hts, hA, hK, -⟩ := C
  intro H locs ls hP hD hS hl
  exact lv_icmp_ge hx hb hd ht (fun q => kt q H locs ls hP hD hS hl) (fun q => kf q H locs ls hP hD hS hl)
theorem j_if_gt (C : jC κ Γ cc nL own ret) {x : Int32} {off : Int} {tgt : Nat} (hd : decode cc pc = .ok (.ifCond .gt off, 3)) (ht : (pc : Int) + off = (tgt : Int)) (kt : 0 < x → J κ Γ σ nL w k n tgt L st) (kf : ¬ (0 < x) → J κ Γ σ nL w k n (pc + 3) L st) : J κ Γ σ nL w k n pc L (.int x :: st) := by
  obtain ⟨p, e, s, m, args, below, meth, c, A⟩ := Γ
  obtain ⟨hx, hb, hml, hown, hts, hA, hK, -⟩ := C
  intro H locs ls hP hD hS hl
  exact lv_if_gt hx hb hd ht (fun q => kt q H locs ls hP hD hS hl) (fun q => kf q H locs ls hP hD hS hl)
theorem j_icmp_gt (C : jC κ Γ cc nL own ret) {x y : Int32} {off : Int} {tgt : Nat} (hd : decode cc pc = .ok (.if_icmp .gt off, 3)) (ht : (pc : Int) + off = (tgt : Int)) (kt : y < x → J κ Γ σ nL w k n tgt L st) (kf : ¬ (y < x) → J κ Γ σ nL w k n (pc + 3) L st) : J κ Γ σ nL w k n pc L (.int y :: .int x :: st) := by
  obtain ⟨p, e, s, m, args, below, meth, c, A⟩ := Γ
  obtain ⟨hx, hb, hml, hown, hts, hA, hK, -⟩ := C
  intro H locs ls hP hD hS hl
  exact lv_icmp_gt hx hb hd ht (fun q => kt q H locs ls hP hD hS hl) (fun q => kf q H locs ls hP hD hS hl)
theorem j_if_le (C : jC κ Γ cc nL own ret) {x : Int32} {off : Int} {tgt : Nat} (hd : decode cc pc = .ok (.ifCond .le off, 3)) (ht : (pc : Int) + off = (tgt : Int)) (kt : x ≤ 0 → J κ Γ σ nL w k n tgt L st) (kf : ¬ (x ≤ 0) → J κ Γ σ nL w k n (pc + 3) L st) : J κ Γ σ nL w k n pc L (.int x :: st) := by
  obtain ⟨p, e, s, m, args, below, meth, c, A⟩ := Γ
  obtain ⟨hx, hb, hml, hown, hts, hA, hK, -⟩ := C
  intro H locs ls hP hD hS hl
  exact lv_if_le hx hb hd ht (fun q => kt q H locs ls hP hD hS hl) (fun q => kf q H locs ls hP hD hS hl)
theorem j_icmp_le (C : jC κ Γ cc nL own ret) {x y : Int32} {off : Int} {tgt : Nat} (hd : decode cc pc = .ok (.if_icmp .le off, 3)) (ht : (pc : Int) + off = (tgt : Int)) (kt : x ≤ y → J κ Γ σ nL w k n tgt L st) (kf : ¬ (x ≤ y) → J κ Γ σ nL w k n (pc + 3) L st) : J κ Γ σ nL w k n pc L (.int y :: .int x :: st) := by
  obtain ⟨p, e, s, m, args, below, meth, c, A⟩ := Γ
  obtain ⟨hx, hb, hml, hown, hts, hA, hK, -⟩ := C
  intro H locs ls hP hD hS hl
  exact lv_icmp_le hx hb hd ht (fun q => kt q H locs ls hP hD hS hl) (fun q => kf q H locs ls hP hD hS hl)
theorem j_goto (C : jC κ Γ cc nL own ret) {off : Int} {tgt : Nat} (hd : decode cc pc = .ok (.goto off, 3)) (ht : (pc : Int) + off = (tgt : Int)) (h : J κ Γ σ nL w k n tgt L st) : J κ Γ σ nL w k n pc L st := by
  obtain ⟨p, e, s, m, args, below, meth, c, A⟩ := Γ
  obtain ⟨hx, hb, hml, hown, hts, hA, hK, -⟩ := C
  intro H locs ls hP hD hS hl
  exact lv_goto hx hb hd ht (h H locs ls hP hD hS hl)
theorem j_ldc (C : jC κ Γ cc nL own ret) {index : Nat} {v : Int32} (hd : decode cc pc = .ok (.ldc index, 2)) (hq : Jvm.Cond.constant own index v ∈ lw_all) (h : J κ Γ σ nL w k n (pc + 2) L (.int v :: st)) : J κ Γ σ nL w k n pc L st := by
  obtain ⟨p, e, s, m, args, below, meth, c, A⟩ := Γ
  obtain ⟨hx, hb, hml, hown, hts, hA, hK, -⟩ := C
  intro H locs ls hP hD hS hl
  exact lv_ldc hx hb hown (hts _ hq) hd (h H locs ls hP hD hS hl)
theorem j_ldc_w (C : jC κ Γ cc nL own ret) {index : Nat} {v : Int32} (hd : decode cc pc = .ok (.ldc_w index, 3)) (hq : Jvm.Cond.constant own index v ∈ lw_all) (h : J κ Γ σ nL w k n (pc + 3) L (.int v :: st)) : J κ Γ σ nL w k n pc L st := by
  obtain ⟨p, e, s, m, args, below, meth, c, A⟩ := Γ
  obtain ⟨hx, hb, hml, hown, hts, hA, hK, -⟩ := C
  intro H locs ls hP hD hS hl
  exact lv_ldcw hx hb hown (hts _ hq) hd (h H locs ls hP hD hS hl)
theorem j_ldc2 (C : jC κ Γ cc nL own ret) {index : Nat} {v : Int64} (hd : decode cc pc = .ok (.ldc2_w index, 3)) (hq : Jvm.Cond.constantLong own index v ∈ lw_all) (h : J κ Γ σ nL w k n (pc + 3) L (.long v :: st)) : J κ Γ σ nL w k n pc L st := by
  obtain ⟨p, e, s, m, args, below, meth, c, A⟩ := Γ
  obtain ⟨hx, hb, hml, hown, hts, hA, hK, -⟩ := C
  intro H locs ls hP hD hS hl
  exact lv_ldc2 hx hb hown (hts _ hq) hd (h H locs ls hP hD hS hl)
theorem j_tabOut (C : jC κ Γ cc nL own ret) {dflt lo hi : Int} {offs : Array Int} {len : Nat} {x : Int32} {tgt : Nat} (hd : decode cc pc = .ok (.tableswitch dflt lo hi offs, len)) (hh : x.toInt < lo ∨ hi < x.toInt) (ht : (pc : Int) + dflt = (tgt : Int)) (h : J κ Γ σ nL w k n tgt L st) : J κ Γ σ nL w k n pc L (.int x :: st) := by
  obtain ⟨p, e, s, m, args, below, meth, c, A⟩ := Γ
  obtain ⟨hx, hb, hml, hown, hts, hA, hK, -⟩ := C
  intro H locs ls hP hD hS hl
  exact lv_tableOut hx hb hd hh ht (h H locs ls hP hD hS hl)
theorem j_tabIn (C : jC κ Γ cc nL own ret) {dflt lo hi : Int} {offs : Array Int} {len : Nat} {x : Int32} {off : Int} {tgt : Nat} (hd : decode cc pc = .ok (.tableswitch dflt lo hi offs, len)) (h1 : ¬ x.toInt < lo) (h2 : ¬ hi < x.toInt) (ho : offs[(x.toInt - lo).toNat]? = some off) (ht : (pc : Int) + off = (tgt : Int)) (h : J κ Γ σ nL w k n tgt L st) : J κ Γ σ nL w k n pc L (.int x :: st) := by
  obtain ⟨p, e, s, m, args, below, meth, c, A⟩ := Γ
  obtain ⟨hx, hb, hml, hown, hts, hA, hK, -⟩ := C
  intro H locs ls hP hD hS hl
  exact lv_tableIn hx hb hd h1 h2 ho ht (h H locs ls hP hD hS hl)
theorem j_lookup (C : jC κ Γ cc nL own ret) {dflt : Int} {ps : Array (Int × Int)} {len : Nat} {x : Int32} {off : Int} {tgt : Nat} (hd : decode cc pc = .ok (.lookupswitch dflt ps, len)) (hp : (ps.toList.zip (ps.toList.drop 1)).all (fun (a, next) => a.1 < next.1) = true) (ho : Op.lookupswitch.offset ps.toList dflt x.toInt = off) (ht : (pc : Int) + off = (tgt : Int)) (h : J κ Γ σ nL w k n tgt L st) : J κ Γ σ nL w k n pc L (.int x :: st) := by
  obtain ⟨p, e, s, m, args, below, meth, c, A⟩ := Γ
  obtain ⟨hx, hb, hml, hown, hts, hA, hK, -⟩ := C
  intro H locs ls hP hD hS hl
  exact lv_lookup hx hb hd hp ho ht (h H locs ls hP hD hS hl)

theorem j_mmax (C : jC κ Γ cc nL own ret) {x y : Int32} {index : Nat} (hd : decode cc pc = .ok (.invokestatic index, 3)) (hlink : Cond.methodLink own index Lib.Math.max.name ∈ lw_all) (hstat : Cond.static Lib.Math.max.name ∈ lw_all) (hini : Cond.initialized "java/lang/Math" ∈ lw_all) (hcode : Cond.code Lib.Math.max.name Lib.Math.max.code 2 (some .int) ∈ lw_all) (hf : 1 ≤ σ.1) (hst : (st.map fun v => v.category).sum ≤ 8) (hk : k ≤ σ.2.1) (hn : n ≤ σ.2.2.1) (h : J κ Γ σ nL w k n (pc + 3) L (.int (jmax x y) :: st)) : J κ Γ σ nL w k n pc L (.int y :: .int x :: st) := by
  obtain ⟨p, e, s, m, args, below, meth, c, A⟩ := Γ
  obtain ⟨hx, hb, hml, hown, hts, hA, hK, -⟩ := C
  intro H locs ls hP hD hS hl
  exact va_mmax hx hb (by rw [hml]; exact hl.1.symm) hown (hts _ hlink) (hts _ hstat) (hts _ hini) (hts _ hcode) hf (show _ ≤ 48 * σ.1 by omega) hk hn hd (h H locs ls hP hD hS hl)
theorem j_mmin (C : jC κ Γ cc nL own ret) {x y : Int32} {index : Nat} (hd : decode cc pc = .ok (.invokestatic index, 3)) (hlink : Cond.methodLink own index Lib.Math.min.name ∈ lw_all) (hstat : Cond.static Lib.Math.min.name ∈ lw_all) (hini : Cond.initialized "java/lang/Math" ∈ lw_all) (hcode : Cond.code Lib.Math.min.name Lib.Math.min.code 2 (some .int) ∈ lw_all) (hf : 1 ≤ σ.1) (hst : (st.map fun v => v.category).sum ≤ 8) (hk : k ≤ σ.2.1) (hn : n ≤ σ.2.2.1) (h : J κ Γ σ nL w k n (pc + 3) L (.int (jmin x y) :: st)) : J κ Γ σ nL w k n pc L (.int y :: .int x :: st) := by
  obtain ⟨p, e, s, m, args, below, meth, c, A⟩ := Γ
  obtain ⟨hx, hb, hml, hown, hts, hA, hK, -⟩ := C
  intro H locs ls hP hD hS hl
  exact va_mmin hx hb (by rw [hml]; exact hl.1.symm) hown (hts _ hlink) (hts _ hstat) (hts _ hini) (hts _ hcode) hf (show _ ≤ 48 * σ.1 by omega) hk hn hd (h H locs ls hP hD hS hl)
theorem j_mabs (C : jC κ Γ cc nL own ret) {x : Int32} {index : Nat} (hd : decode cc pc = .ok (.invokestatic index, 3)) (hlink : Cond.methodLink own index Lib.Math.abs.name ∈ lw_all) (hstat : Cond.static Lib.Math.abs.name ∈ lw_all) (hini : Cond.initialized "java/lang/Math" ∈ lw_all) (hcode : Cond.code Lib.Math.abs.name Lib.Math.abs.code 1 (some .int) ∈ lw_all) (hf : 1 ≤ σ.1) (hst : (st.map fun v => v.category).sum ≤ 8) (hk : k ≤ σ.2.1) (hn : n ≤ σ.2.2.1) (h : J κ Γ σ nL w k n (pc + 3) L (.int (jabs x) :: st)) : J κ Γ σ nL w k n pc L (.int x :: st) := by
  obtain ⟨p, e, s, m, args, below, meth, c, A⟩ := Γ
  obtain ⟨hx, hb, hml, hown, hts, hA, hK, -⟩ := C
  intro H locs ls hP hD hS hl
  exact va_mabs hx hb (by rw [hml]; exact hl.1.symm) hown (hts _ hlink) (hts _ hstat) (hts _ hini) (hts _ hcode) hf (show _ ≤ 48 * σ.1 by omega) hk hn hd (h H locs ls hP hD hS hl)

theorem j_get (C : jC κ Γ cc nL own ret) {ref C' : String} {T : u_T} {N ci index : Nat} (hin : ∀ w ∈ u_ws C' T N, w ∈ lw_all) (r : Nat) {a : Nat} {fs : List Value} (he : w r = some (a, .inr (ci, fs))) (hc : κ.2.2.1[ci]? = some (C', T, N)) (j : Nat) (hj : j < N) (hlink : Cond.fieldLink own index ref (T j).2.1 (T j).2.2.1 ∈ lw_all) (hrf : (T j).1 = ref) {v : Value} (hv : fs[j]? = some v) (hd : decode cc pc = .ok (.getfield index, 3)) (h : J κ Γ σ nL w k n (pc + 3) L (v :: st)) : J κ Γ σ nL w k n pc L (.ref a :: st) := by
  obtain ⟨p, e, s, m, args, below, meth, c, A⟩ := Γ
  obtain ⟨hx, hb, hml, hown, hts, hA, hK, -⟩ := C
  intro H locs ls hP hD hS hl
  have hP1 : va_P κ.2.1 κ.2.2.1 [(a, .inr (ci, fs))] H := by
    intro i q hq
    cases i with
    | zero => cases hq; exact hP r _ he
    | succ i => simp at hq
  exact va_get hx hb hts hin hown hK hP1 0 rfl hc j hj (hts _ hlink) (fun x hx => by rw [← hrf]; exact hx) hv hd (h H locs ls hP hD hS hl)
theorem j_put (C : jC κ Γ cc nL own ret) {ref C' : String} {T : u_T} {N ci index : Nat} (hin : ∀ w ∈ u_ws C' T N, w ∈ lw_all) (ty0 : Nat → FieldType) (hty : ∀ k, k < N → parseFieldDescriptor (T k).2.2.1 = some (ty0 k)) (hnm : ∀ a, a < N → ∀ b, b < N → a ≠ b → (T a).2.1 ≠ (T b).2.1) (r : Nat) {a : Nat} {fs : List Value} (he : w r = some (a, .inr (ci, fs))) (hc : κ.2.2.1[ci]? = some (C', T, N)) (j : Nat) (hj : j < N) (hlink : Cond.fieldLink own index ref (T j).2.1 (T j).2.2.1 ∈ lw_all) (hrf : (T j).1 = ref) (hfin : (T j).2.2.2 = false) {ty : FieldType} {v : Value} (hdd : ty0 j = ty) (hnar : narrow ty v = v) (hfit : fits ty v = true) (hlen : j < fs.length) (hd : decode cc pc = .ok (.putfield index, 3)) (h : J κ Γ σ nL (jset w r (a, .inr (ci, fs.set j v))) k n (pc + 3) L st) : J κ Γ σ nL w k n pc L (v :: .ref a :: st) := by
  obtain ⟨p, e, s, m, args, below, meth, c, A⟩ := Γ
  obtain ⟨hx, hb, hml, hown, hts, hA, hK, -⟩ := C
  intro H locs ls hP hD hS hl
  subst hdd
  have hap := va_apart (own := own) hts hin ty0 hty hnm hK hc
  obtain ⟨r', h1, cell, q1, q2, q3, q4⟩ := hP r _ he
  have hr : r' = (C', T, N) := Option.some.inj (h1.symm.trans hc)
  subst hr
  obtain ⟨hS', hfc, kC, hkC, hkind⟩ := hK.1 ci _ hc
  obtain ⟨cf, kf, fi, f, hi, hsl⟩ := hS' j hj
  have hlay := hts _ (hin _ (u_in_lay hj))
  unfold u_lay at hlay
  rw [if_neg (by rw [hfin]; decide)] at hlay
  have hst := (u_facts hfc hkC (u_lays hts hin hj) hi).1
  have h6 := u_store hfc hkC hkind hlay hi (hty j hj) hnar hfit
  refine W.putK hx hb (f := f) ⟨hown, hts _ hlink, ⟨_, _, _, by rw [← hrf]; exact hi⟩, hst⟩ (by rw [q2]; exact h6) q1 q3 (by rw [hsl]; exact k2_hasslot (q4 j hj)) rfl rfl hd fun H' e1 e2 e3 => ?_
  rw [hsl] at e1 ⊢
  refine h H' _ ls (hP.set hD he ⟨_, hc, t_OB.to (V := updV (vp_V fs) j v) ⟨_, e1, q2, q3, t_set q4 hap hj v⟩ (fun i _ => vp_updV_set hlen v i)⟩ e3) (hD.set he) (hS.put e2 e3 (hD.2 r _ he)) hl

theorem j_iald (C : jC κ Γ cc nL own ret) (r t0 : Nat) {a : Nat} {cA : ClassId} {N : Nat} {f : Nat → Int32} {i : Int32} (he : w r = some (a, .inl (cA, N, .inl f))) (ht : κ.2.2.2.1[t0]? = some (cA, .int)) (hin : vp_in i N) (hd : decode cc pc = .ok (.iaload, 1)) (h : J κ Γ σ nL w k n (pc + 1) L (.int (f i.toNatClampNeg) :: st)) : J κ Γ σ nL w k n pc L (.int i :: .ref a :: st) := by
  obtain ⟨p, e, s, m, args, below, meth, c, A⟩ := Γ
  obtain ⟨hx, hb, hml, hown, hts, hA, hK, -⟩ := C
  intro H locs ls hP hD hS hl
  have hP1 : va_P κ.2.1 κ.2.2.1 [(a, .inl (cA, N, .inl f))] H := by
    intro i q hq
    cases i with
    | zero => cases hq; exact hP r _ he
    | succ i => simp at hq
  exact va_iald hx hb hK hP1 0 t0 rfl ht hin hd (h H locs ls hP hD hS hl)
theorem j_bald (C : jC κ Γ cc nL own ret) (r t0 : Nat) {a : Nat} {cA : ClassId} {N : Nat} {f : Nat → Int32} {i : Int32} (he : w r = some (a, .inl (cA, N, .inl f))) (ht : κ.2.2.2.1[t0]? = some (cA, .byte)) (hin : vp_in i N) (hd : decode cc pc = .ok (.baload, 1)) (h : J κ Γ σ nL w k n (pc + 1) L (.int (f i.toNatClampNeg) :: st)) : J κ Γ σ nL w k n pc L (.int i :: .ref a :: st) := by
  obtain ⟨p, e, s, m, args, below, meth, c, A⟩ := Γ
  obtain ⟨hx, hb, hml, hown, hts, hA, hK, -⟩ := C
  intro H locs ls hP hD hS hl
  have hP1 : va_P κ.2.1 κ.2.2.1 [(a, .inl (cA, N, .inl f))] H := by
    intro i q hq
    cases i with
    | zero => cases hq; exact hP r _ he
    | succ i => simp at hq
  exact va_bald hx hb hK hP1 0 t0 rfl ht hin hd (h H locs ls hP hD hS hl)
theorem j_zald (C : jC κ Γ cc nL own ret) (r t0 : Nat) {a : Nat} {cA : ClassId} {N : Nat} {f : Nat → Int32} {i : Int32} (he : w r = some (a, .inl (cA, N, .inl f))) (ht : κ.2.2.2.1[t0]? = some (cA, .boolean)) (hin : vp_in i N) (hd : decode cc pc = .ok (.baload, 1)) (h : J κ Γ σ nL w k n (pc + 1) L (.int (f i.toNatClampNeg) :: st)) : J κ Γ σ nL w k n pc L (.int i :: .ref a :: st) := by
  obtain ⟨p, e, s, m, args, below, meth, c, A⟩ := Γ
  obtain ⟨hx, hb, hml, hown, hts, hA, hK, -⟩ := C
  intro H locs ls hP hD hS hl
  have hP1 : va_P κ.2.1 κ.2.2.1 [(a, .inl (cA, N, .inl f))] H := by
    intro i q hq
    cases i with
    | zero => cases hq; exact hP r _ he
    | succ i => simp at hq
  exact va_zald hx hb hK hP1 0 t0 rfl ht hin hd (h H locs ls hP hD hS hl)
theorem j_sald (C : jC κ Γ cc nL own ret) (r t0 : Nat) {a : Nat} {cA : ClassId} {N : Nat} {f : Nat → Int32} {i : Int32} (he : w r = some (a, .inl (cA, N, .inl f))) (ht : κ.2.2.2.1[t0]? = some (cA, .short)) (hin : vp_in i N) (hd : decode cc pc = .ok (.saload, 1)) (h : J κ Γ σ nL w k n (pc + 1) L (.int (f i.toNatClampNeg) :: st)) : J κ Γ σ nL w k n pc L (.int i :: .ref a :: st) := by
  obtain ⟨p, e, s, m, args, below, meth, c, A⟩ := Γ
  obtain ⟨hx, hb, hml, hown, hts, hA, hK, -⟩ := C
  intro H locs ls hP hD hS hl
  have hP1 : va_P κ.2.1 κ.2.2.1 [(a, .inl (cA, N, .inl f))] H := by
    intro i q hq
    cases i with
    | zero => cases hq; exact hP r _ he
    | succ i => simp at hq
  exact va_sald hx hb hK hP1 0 t0 rfl ht hin hd (h H locs ls hP hD hS hl)
theorem j_cald (C : jC κ Γ cc nL own ret) (r t0 : Nat) {a : Nat} {cA : ClassId} {N : Nat} {f : Nat → Int32} {i : Int32} (he : w r = some (a, .inl (cA, N, .inl f))) (ht : κ.2.2.2.1[t0]? = some (cA, .char)) (hin : vp_in i N) (hd : decode cc pc = .ok (.caload, 1)) (h : J κ Γ σ nL w k n (pc + 1) L (.int (f i.toNatClampNeg) :: st)) : J κ Γ σ nL w k n pc L (.int i :: .ref a :: st) := by
  obtain ⟨p, e, s, m, args, below, meth, c, A⟩ := Γ
  obtain ⟨hx, hb, hml, hown, hts, hA, hK, -⟩ := C
  intro H locs ls hP hD hS hl
  have hP1 : va_P κ.2.1 κ.2.2.1 [(a, .inl (cA, N, .inl f))] H := by
    intro i q hq
    cases i with
    | zero => cases hq; exact hP r _ he
    | succ i => simp at hq
  exact va_cald hx hb hK hP1 0 t0 rfl ht hin hd (h H locs ls hP hD hS hl)
theorem j_lald (C : jC κ Γ cc nL own ret) (r t0 : Nat) {a : Nat} {cA : ClassId} {N : Nat} {f : Nat → Int64} {i : Int32} (he : w r = some (a, .inl (cA, N, .inr (.inl f)))) (ht : κ.2.2.2.1[t0]? = some (cA, .long)) (hin : vp_in i N) (hd : decode cc pc = .ok (.laload, 1)) (h : J κ Γ σ nL w k n (pc + 1) L (.long (f i.toNatClampNeg) :: st)) : J κ Γ σ nL w k n pc L (.int i :: .ref a :: st) := by
  obtain ⟨p, e, s, m, args, below, meth, c, A⟩ := Γ
  obtain ⟨hx, hb, hml, hown, hts, hA, hK, -⟩ := C
  intro H locs ls hP hD hS hl
  have hP1 : va_P κ.2.1 κ.2.2.1 [(a, .inl (cA, N, .inr (.inl f)))] H := by
    intro i q hq
    cases i with
    | zero => cases hq; exact hP r _ he
    | succ i => simp at hq
  exact va_lald hx hb hK hP1 0 t0 rfl ht hin hd (h H locs ls hP hD hS hl)
theorem j_iast (C : jC κ Γ cc nL own ret) (r t0 : Nat) {a : Nat} {cA : ClassId} {N : Nat} {f : Nat → Int32} {i : Int32} {x : Int32} (he : w r = some (a, .inl (cA, N, .inl f))) (ht : κ.2.2.2.1[t0]? = some (cA, .int)) (hin : vp_in i N) (hd : decode cc pc = .ok (.iastore, 1)) (h : J κ Γ σ nL (jset w r (a, .inl (cA, N, .inl (upd f i.toNatClampNeg x)))) k n (pc + 1) L st) : J κ Γ σ nL w k n pc L (.int x :: .int i :: .ref a :: st) := by
  obtain ⟨p, e, s, m, args, below, meth, c, A⟩ := Γ
  obtain ⟨hx, hb, hml, hown, hts, hA, hK, -⟩ := C
  intro H locs ls hP hD hS hl
  refine W.iast hx hb (hP r _ he) ((hK.2 t0 _ ht).1 N (fun j => .int (f j))) (fun q => by cases q) (by show ¬ (i < 0 ∨ (arrV _ _ _).slots.size ≤ _); rw [arrV_size]; exact hin) rfl rfl hd fun H1 e z oq => ?_
  refine h H1 _ ls (hP.set hD he ?_ oq) (hD.set he) (hS.put z oq (hD.2 r _ he)) hl
  show H1[a]? = some (vp_cell _ _)
  rw [e]
  rw [vp_cell_i, vp_cell_i, arrV_store]
  congr 2
  funext q
  by_cases hq : q = i.toNatClampNeg
  · subst hq
    simp [updV, upd]
    try rfl
  · simp [updV, upd, hq]
theorem j_bast (C : jC κ Γ cc nL own ret) (r t0 : Nat) {a : Nat} {cA : ClassId} {N : Nat} {f : Nat → Int32} {i : Int32} {x : Int32} (he : w r = some (a, .inl (cA, N, .inl f))) (ht : κ.2.2.2.1[t0]? = some (cA, .byte)) (hin : vp_in i N) (hd : decode cc pc = .ok (.bastore, 1)) (h : J κ Γ σ nL (jset w r (a, .inl (cA, N, .inl (upd f i.toNatClampNeg (vp_nar .byte x))))) k n (pc + 1) L st) : J κ Γ σ nL w k n pc L (.int x :: .int i :: .ref a :: st) := by
  obtain ⟨p, e, s, m, args, below, meth, c, A⟩ := Γ
  obtain ⟨hx, hb, hml, hown, hts, hA, hK, -⟩ := C
  intro H locs ls hP hD hS hl
  refine W.bast hx hb (hP r _ he) ((hK.2 t0 _ ht).1 N (fun j => .int (f j))) (fun q => by cases q) (by show ¬ (i < 0 ∨ (arrV _ _ _).slots.size ≤ _); rw [arrV_size]; exact hin) rfl rfl hd fun H1 e z oq => ?_
  refine h H1 _ ls (hP.set hD he ?_ oq) (hD.set he) (hS.put z oq (hD.2 r _ he)) hl
  show H1[a]? = some (vp_cell _ _)
  rw [e]
  rw [vp_cell_i, vp_cell_i, arrV_store]
  congr 2
  funext q
  by_cases hq : q = i.toNatClampNeg
  · subst hq
    simp [updV, upd, vp_nar]
    try rfl
  · simp [updV, upd, hq]
theorem j_zast (C : jC κ Γ cc nL own ret) (r t0 : Nat) {a : Nat} {cA : ClassId} {N : Nat} {f : Nat → Int32} {i : Int32} {x : Int32} (he : w r = some (a, .inl (cA, N, .inl f))) (ht : κ.2.2.2.1[t0]? = some (cA, .boolean)) (hin : vp_in i N) (hd : decode cc pc = .ok (.bastore, 1)) (h : J κ Γ σ nL (jset w r (a, .inl (cA, N, .inl (upd f i.toNatClampNeg (vp_nar .boolean x))))) k n (pc + 1) L st) : J κ Γ σ nL w k n pc L (.int x :: .int i :: .ref a :: st) := by
  obtain ⟨p, e, s, m, args, below, meth, c, A⟩ := Γ
  obtain ⟨hx, hb, hml, hown, hts, hA, hK, -⟩ := C
  intro H locs ls hP hD hS hl
  refine W.zast hx hb (hP r _ he) ((hK.2 t0 _ ht).1 N (fun j => .int (f j))) (fun q => by cases q) (by show ¬ (i < 0 ∨ (arrV _ _ _).slots.size ≤ _); rw [arrV_size]; exact hin) rfl rfl hd fun H1 e z oq => ?_
  refine h H1 _ ls (hP.set hD he ?_ oq) (hD.set he) (hS.put z oq (hD.2 r _ he)) hl
  show H1[a]? = some (vp_cell _ _)
  rw [e]
  rw [vp_cell_i, vp_cell_i, arrV_store]
  congr 2
  funext q
  by_cases hq : q = i.toNatClampNeg
  · subst hq
    simp [updV, upd, vp_nar]
    try rfl
  · simp [updV, upd, hq]
theorem j_sast (C : jC κ Γ cc nL own ret) (r t0 : Nat) {a : Nat} {cA : ClassId} {N : Nat} {f : Nat → Int32} {i : Int32} {x : Int32} (he : w r = some (a, .inl (cA, N, .inl f))) (ht : κ.2.2.2.1[t0]? = some (cA, .short)) (hin : vp_in i N) (hd : decode cc pc = .ok (.sastore, 1)) (h : J κ Γ σ nL (jset w r (a, .inl (cA, N, .inl (upd f i.toNatClampNeg (vp_nar .short x))))) k n (pc + 1) L st) : J κ Γ σ nL w k n pc L (.int x :: .int i :: .ref a :: st) := by
  obtain ⟨p, e, s, m, args, below, meth, c, A⟩ := Γ
  obtain ⟨hx, hb, hml, hown, hts, hA, hK, -⟩ := C
  intro H locs ls hP hD hS hl
  refine W.sast hx hb (hP r _ he) ((hK.2 t0 _ ht).1 N (fun j => .int (f j))) (fun q => by cases q) (by show ¬ (i < 0 ∨ (arrV _ _ _).slots.size ≤ _); rw [arrV_size]; exact hin) rfl rfl hd fun H1 e z oq => ?_
  refine h H1 _ ls (hP.set hD he ?_ oq) (hD.set he) (hS.put z oq (hD.2 r _ he)) hl
  show H1[a]? = some (vp_cell _ _)
  rw [e]
  rw [vp_cell_i, vp_cell_i, arrV_store]
  congr 2
  funext q
  by_cases hq : q = i.toNatClampNeg
  · subst hq
    simp [updV, upd, vp_nar]
    try rfl
  · simp [updV, upd, hq]
theorem j_last (C : jC κ Γ cc nL own ret) (r t0 : Nat) {a : Nat} {cA : ClassId} {N : Nat} {f : Nat → Int64} {i : Int32} {x : Int64} (he : w r = some (a, .inl (cA, N, .inr (.inl f)))) (ht : κ.2.2.2.1[t0]? = some (cA, .long)) (hin : vp_in i N) (hd : decode cc pc = .ok (.lastore, 1)) (h : J κ Γ σ nL (jset w r (a, .inl (cA, N, .inr (.inl (vp_updL f i.toNatClampNeg x))))) k n (pc + 1) L st) : J κ Γ σ nL w k n pc L (.long x :: .int i :: .ref a :: st) := by
  obtain ⟨p, e, s, m, args, below, meth, c, A⟩ := Γ
  obtain ⟨hx, hb, hml, hown, hts, hA, hK, -⟩ := C
  intro H locs ls hP hD hS hl
  refine W.last hx hb (hP r _ he) ((hK.2 t0 _ ht).1 N (fun j => .long (f j))) (fun q => by cases q) (by show ¬ (i < 0 ∨ (arrV _ _ _).slots.size ≤ _); rw [arrV_size]; exact hin) rfl rfl hd fun H1 e z oq => ?_
  refine h H1 _ ls (hP.set hD he ?_ oq) (hD.set he) (hS.put z oq (hD.2 r _ he)) hl
  show H1[a]? = some (vp_cell _ _)
  rw [e]
  rw [vp_cell_l, vp_cell_l, arrV_store]
  congr 2
  funext q
  by_cases hq : q = i.toNatClampNeg
  · subst hq
    simp [updV, vp_updL]
    try rfl
  · simp [updV, vp_updL, hq]
theorem j_alen (C : jC κ Γ cc nL own ret) (r t0 : Nat) {a : Nat} {cA : ClassId} {x : vp_A} (he : w r = some (a, .inl (cA, x))) {ty : FieldType} (ht : κ.2.2.2.1[t0]? = some (cA, ty)) {v : Int32} (hv : Int32.ofNat x.1 = v) (hd : decode cc pc = .ok (.arraylength, 1)) (h : J κ Γ σ nL w k n (pc + 1) L (.int v :: st)) : J κ Γ σ nL w k n pc L (.ref a :: st) := by
  obtain ⟨p, e, s, m, args, below, meth, c, A⟩ := Γ
  obtain ⟨hx, hb, hml, hown, hts, hA, hK, -⟩ := C
  intro H locs ls hP hD hS hl
  have hP1 : va_P κ.2.1 κ.2.2.1 [(a, .inl (cA, x))] H := by
    intro i q hq
    cases i with
    | zero => cases hq; exact hP r _ he
    | succ i => simp at hq
  exact va_alen hx hb hK hP1 0 t0 rfl ht hv hd (h H locs ls hP hD hS hl)

theorem j_iret (C : jC κ Γ cc nL own (some .int)) {v : Int32}  (hd : decode cc pc = .ok (.ireturn, 1)) (hk : k ≤ σ.2.1) (hn : n ≤ σ.2.2.1) (hp : σ.2.2.2 (some (.int v)) w) : J κ Γ σ nL w k n pc L [.int v] := by
  obtain ⟨p, e, s, m, args, below, meth, c, A⟩ := Γ
  obtain ⟨hx, hb, hml, hown, hts, hA, hK, -, -, -, -, hlocks, hr⟩ := C
  intro H locs ls hP hD hS hl
  refine W.widen (k := σ.2.1) (n := σ.2.2.1) hk hn ?_
  exact W.iret (v := v) hx hb hr  (fun t ht hW => ⟨⟨_, w, rfl, hp, by rw [ht]; exact hP, hD⟩, hS.F ht⟩) hS.2.2 hd
theorem j_lret (C : jC κ Γ cc nL own (some .long)) {v : Int64}  (hd : decode cc pc = .ok (.lreturn, 1)) (hk : k ≤ σ.2.1) (hn : n ≤ σ.2.2.1) (hp : σ.2.2.2 (some (.long v)) w) : J κ Γ σ nL w k n pc L [.long v] := by
  obtain ⟨p, e, s, m, args, below, meth, c, A⟩ := Γ
  obtain ⟨hx, hb, hml, hown, hts, hA, hK, -, -, -, -, hlocks, hr⟩ := C
  intro H locs ls hP hD hS hl
  refine W.widen (k := σ.2.1) (n := σ.2.2.1) hk hn ?_
  exact W.lret (v := v) hx hb hr  (fun t ht hW => ⟨⟨_, w, rfl, hp, by rw [ht]; exact hP, hD⟩, hS.F ht⟩) hS.2.2 hd
theorem j_zret (C : jC κ Γ cc nL own (some .boolean)) {v : Int32} (hz : narrow .boolean (.int v) = .int v) (hd : decode cc pc = .ok (.ireturn, 1)) (hk : k ≤ σ.2.1) (hn : n ≤ σ.2.2.1) (hp : σ.2.2.2 (some (.int v)) w) : J κ Γ σ nL w k n pc L [.int v] := by
  obtain ⟨p, e, s, m, args, below, meth, c, A⟩ := Γ
  obtain ⟨hx, hb, hml, hown, hts, hA, hK, -, -, -, -, hlocks, hr⟩ := C
  intro H locs ls hP hD hS hl
  refine W.widen (k := σ.2.1) (n := σ.2.2.1) hk hn ?_
  exact W.zret (v := v) hx hb hr hz (fun t ht hW => ⟨⟨_, w, rfl, hp, by rw [ht]; exact hP, hD⟩, hS.F ht⟩) hS.2.2 hd
theorem j_vret (C : jC κ Γ cc nL own none) (hd : decode cc pc = .ok (.return_, 1)) (hk : k ≤ σ.2.1) (hn : n ≤ σ.2.2.1) (hp : σ.2.2.2 none w) : J κ Γ σ nL w k n pc L [] := by
  obtain ⟨p, e, s, m, args, below, meth, c, A⟩ := Γ
  obtain ⟨hx, hb, hml, hown, hts, hA, hK, -, -, -, -, hlocks, hr⟩ := C
  intro H locs ls hP hD hS hl
  refine W.widen (k := σ.2.1) (n := σ.2.2.1) hk hn ?_
  exact W.vret hx hb hr (fun t ht hW => ⟨⟨_, w, rfl, hp, by rw [ht]; exact hP, hD⟩, hS.F ht⟩) hS.2.2 hd
/-- the contract's start for a called frame -/
theorem j_pre {p : Program} {e : Env} {s : State} {m : MethodId} {args : Array Value} {below : List Frame} {meth : Method} {c : Code} {A : Nat → Prop} (hκ : jOK κ) (C : jC κ (p, e, s, m, args, below, meth, c, A) cc nL own ret) {H : Heap} {locs : List Loc} (hP : jP κ.2.1 κ.2.2.1 w H) (hD : jD A w) (hS : va_S A s.heap H locs) (av : List Value) : PreS s H (jPc κ av w H.size) av := by
  obtain ⟨hx, hb, hml, hown, hts, hA, hK, hX, hc1, hc2, hZ, -⟩ := C
  refine ⟨fun a U g mk q => ?_, fun U hU hW => ?_⟩
  · obtain ⟨q0, q1, qP, qK, qD, qX, q2, q3, q4⟩ := q
    exact ⟨q0, q1, qP, va_K.moved (u := U) (U := U.calling g mk a) (Vm.Alike.refl U.vm) qK, qD, hκ.1.2 _ _ _ _ qX, q2, q3, vx_Zq.moved (u := U) (U := U.calling g mk a) (Vm.Alike.refl U.vm) q4.1, vx_Zq.moved (u := U) (U := U.calling g mk a) (Vm.Alike.refl U.vm) q4.2.1, va_Z.moved (u := U) (U := U.calling g mk a) (Vm.Alike.refl U.vm) q4.2.2⟩
  · have hsub : ∀ q, jA w H.size q → A q := by
      rintro q (⟨r, e, h⟩ | h)
      · exact hD.2 r _ h
      · exact hA q (Nat.le_trans hS.1 h)
    refine ⟨rfl, by rw [hU], by rw [hU]; exact hP, va_K.moved hW.alike hK, hD.weaken (fun _ _ => trivial), hκ.1.1 _ _ hW hX, ?_, ?_, ?_⟩
    · rw [hU]
      exact hc1.kept fun r q hr => hS.2.1 q.1 (hc1 r q hr).lt (hc2 r q hr)
    · intro r r' q q' hr hr' he
      exact hc2 r q hr (he ▸ hD.2 r' q' hr')
    · rw [hU]
      exact ⟨((hZ.1.kept hS.2.1).narrow hsub).moved hW.alike, ((hZ.2.1.kept hS.2.1).narrow hsub).moved hW.alike, ((hZ.2.2.kept hS.2.1).narrow hsub).moved hW.alike⟩
theorem jA_sub {A : Nat → Prop} {s : State} {H : Heap} {locs : List Loc} (hA : ∀ q, s.heap.size ≤ q → A q) (hD : jD A w) (hS : va_S A s.heap H locs) : ∀ q, jA w H.size q → A q := by
  rintro q (⟨r, e, h⟩ | h)
  · exact hD.2 r _ h
  · exact hA q (Nat.le_trans hS.1 h)
/-- behind a call: the machine goes on with the answer, in a world that the callee's end allows -/
theorem j_back {p : Program} {e : Env} {s : State} {m : MethodId} {args : Array Value} {below : List Frame} {meth : Method} {c : Code} {A : Nat → Prop} {H : Heap} {locs : List Loc} {ls : Array Slot} {mc ms : Nat} {st0 : List Value} {a : Array Value} {post : Option Value → jW → Prop} (hA : ∀ q, s.heap.size ≤ q → A q) (hP : jP κ.2.1 κ.2.2.1 w H) (hD : jD A w) (hS : va_S A s.heap H locs) (hl : jL ls nL L)
    (hr : va_Run p κ.1 e (jR σ.1 σ.2.1 σ.2.2.1) s m args below meth c H locs k n mc ms (F0 m pc ls st0) st (jQ κ post (jA w H.size) a) (jA w H.size))
    (h : ∀ (v : Option Value) (w' : jW), post v w' → J κ (p, e, s, m, args, below, meth, c, A) σ nL w' (k + mc) (n + ms) (pc + 3) L (v.toList ++ st)) : W p κ.1 e (jR σ.1 σ.2.1 σ.2.2.1) s m args below meth c H locs k n (MQ below (jQ κ σ.2.2.2 A) args s σ.2.1 σ.2.2.1 A) (F0 m pc ls st0) := by
  have hf := jA_sub hA hD hS
  intro T hT X
  obtain ⟨v, st₀, t, T', L', h0, X', hL, e1, e2, ⟨⟨v', w', hv, hp, hP1, hD1⟩, hz, hk⟩, stp⟩ := hr T hT X
  cases hv
  rw [h0] at hz hk
  have hS' : va_S A s.heap T'.heap (locs ++ L') := by
    refine ⟨Nat.le_trans hS.1 (by rw [e1]; exact hz), fun q h1 h2 => ?_, fun q hq => ?_⟩
    · rw [e1, hk q (Nat.lt_of_lt_of_le h1 hS.1) (fun z => h2 (hf q z))]
      exact hS.2.1 q h1 h2
    · rcases List.mem_append.mp hq with h | h
      · exact hS.2.2 q h
      · exact hf _ (hL q h)
  obtain ⟨t2, a1, b1⟩ := h v w' hp T'.heap (locs ++ L') ls (by rw [e1]; exact hP1) (hD1.weaken hf) hS' hl T' rfl X'
  exact ⟨t2, stp t2 a1, b1⟩
/-- room of a call -/
def jfit (σ : jS) (f mc ms k n maxL : Nat) (st : List Value) : Prop := f + 1 ≤ σ.1 ∧ maxL ≤ 29 ∧ k + mc ≤ σ.2.1 ∧ n + ms ≤ σ.2.2.1 ∧ (st.map fun v => v.category).sum ≤ 8
theorem j_callV (hκ : jOK κ) (C : jC κ Γ cc nL own ret) {y : MethodName} {b2 : ByteArray} {maxL f mc ms index N : Nat} {r2 : Option FieldType} {As : List Value} {a ci r : Nat} {fs : List Value} {q : vw_C} {post : Option Value → jW → Prop}
    (hM : jM κ y (ws_ y b2 maxL r2) f mc ms (.ref a :: As) w post) (hG : GoodIn lw_all (wsV own index y.cls y (ws_ y b2 maxL r2))) (hy : y.cls ≠ "java/lang/invoke/MethodHandle" ∧ y.cls ≠ "java/lang/invoke/VarHandle" ∧ (parseMethodDescriptor y.desc).map (fun d => d.parameters.length) = some N) (hn : As.length = N)
    (he : w r = some (a, .inr (ci, fs))) (hc : κ.2.2.1[ci]? = some q) (hq : q.1 = y.cls) (hd : decode cc pc = .ok (.invokevirtual index, 3)) (hfit : jfit σ f mc ms k n maxL st) {st0 : List Value} (hst : st0 = As.reverse ++ .ref a :: st)
    (h : ∀ (v : Option Value) (w' : jW), post v w' → J κ Γ σ nL w' (k + mc) (n + ms) (pc + 3) L (v.toList ++ st)) : J κ Γ σ nL w k n pc L st0 := by
  obtain ⟨p, e, s, m, args, below, meth, c, A⟩ := Γ
  intro H locs ls hP hD hS hl
  have hpre := j_pre hκ C hP hD hS (.ref a :: As)
  obtain ⟨hx, hb, hml, hown, hts, hA, hK, -⟩ := C
  obtain ⟨f1, f2, f3, f4, f5⟩ := hfit
  refine j_back hA hP hD hS hl (va_runV (C := y.cls) (As := As) (b := a) (rest := st) ⟨hx, hb, hml, hown, hts⟩ (hM H.size) (cwV N hts hG rfl rfl rfl ⟨rfl, hy⟩ ⟨f1, ?_⟩) ⟨hpre.1, ?_, hpre.2⟩ rfl hn hl.1 hst (lv_room f5) hd ⟨f3, f4⟩) h
  · show 8 + (maxL + 11) + 48 * f ≤ 48 * σ.1
    omega
  · obtain ⟨q', h1, cell, g1, g2, g3, -⟩ := hP r _ he
    have e2 : q' = q := Option.some.inj (h1.symm.trans hc)
    exact ⟨cell, g1, by rw [g3]; rfl, by rw [g2, ← hq, ← e2]; exact (hK.1 ci q' h1).2.1⟩
theorem j_callS (hκ : jOK κ) (C : jC κ Γ cc nL own ret) {y : MethodName} {b2 : ByteArray} {maxL f mc ms index N : Nat} {r2 : Option FieldType} {As : List Value} {post : Option Value → jW → Prop}
    (hM : jM κ y (ws_ y b2 maxL r2) f mc ms As w post) (hG : GoodIn lw_all (va_wsS own index y (ws_ y b2 maxL r2))) (hy : y.cls ≠ "java/lang/invoke/MethodHandle" ∧ y.cls ≠ "java/lang/invoke/VarHandle" ∧ (parseMethodDescriptor y.desc).map (fun d => d.parameters.length) = some N) (hn : As.length = N)
    (hd : decode cc pc = .ok (.invokestatic index, 3)) (hfit : jfit σ f mc ms k n maxL st) {st0 : List Value} (hst : st0 = As.reverse ++ st)
    (h : ∀ (v : Option Value) (w' : jW), post v w' → J κ Γ σ nL w' (k + mc) (n + ms) (pc + 3) L (v.toList ++ st)) : J κ Γ σ nL w k n pc L st0 := by
  obtain ⟨p, e, s, m, args, below, meth, c, A⟩ := Γ
  intro H locs ls hP hD hS hl
  have hpre := j_pre hκ C hP hD hS As
  obtain ⟨hx, hb, hml, hown, hts, hA, hK, -⟩ := C
  obtain ⟨f1, f2, f3, f4, f5⟩ := hfit
  refine j_back hA hP hD hS hl (va_runS (As := As) (rest := st) ⟨hx, hb, hml, hown, hts⟩ (hM H.size) (va_cwS N hts hG rfl rfl rfl hy ⟨f1, ?_⟩) hpre rfl hn hl.1 hst (lv_room f5) hd ⟨f3, f4⟩) h
  show 8 + (maxL + 11) + 48 * f ≤ 48 * σ.1
  omega
theorem j_callI (hκ : jOK κ) (C : jC κ Γ cc nL own ret) {y : MethodName} {b2 : ByteArray} {maxL f mc ms index N : Nat} {As : List Value} {a : Nat} {post : Option Value → jW → Prop}
    (hM : jM κ y (ws_ y b2 maxL none) f mc ms (.ref a :: As) w post) (hG : Cond.code y b2 maxL none ∈ lw_all) (hini : Cond.initialized y.cls ∈ lw_all) (hlink : Cond.methodLink own index y ∈ lw_all) (hinst : Cond.instanceMethod y ∈ lw_all) (hy1 : y.name = "<init>") (hy : y.cls ≠ "java/lang/invoke/MethodHandle" ∧ y.cls ≠ "java/lang/invoke/VarHandle" ∧ (parseMethodDescriptor y.desc).map (fun d => d.parameters.length) = some N) (hn : As.length = N)
    (hd : decode cc pc = .ok (.invokespecial index, 3)) (hfit : jfit σ f mc ms k n maxL st) {st0 : List Value} (hst : st0 = As.reverse ++ .ref a :: st)
    (h : ∀ (v : Option Value) (w' : jW), post v w' → J κ Γ σ nL w' (k + mc) (n + ms) (pc + 3) L (v.toList ++ st)) : J κ Γ σ nL w k n pc L st0 := by
  obtain ⟨p, e, s, m, args, below, meth, c, A⟩ := Γ
  intro H locs ls hP hD hS hl
  have hpre := j_pre hκ C hP hD hS (.ref a :: As)
  obtain ⟨hx, hb, hml, hown, hts, hA, hK, -⟩ := C
  obtain ⟨f1, f2, f3, f4, f5⟩ := hfit
  refine j_back hA hP hD hS hl (va_runI (As := As) (b := a) (rest := st) ⟨hx, hb, hml, hown, hts⟩ (hM H.size) (cwI N hts (lw_meth hG) rfl rfl rfl (hts _ hini) (hts _ hlink) (hts _ hinst) hy1 hy ⟨f1, ?_⟩) hpre rfl hn hl.1 hst (lv_room f5) hd ⟨f3, f4⟩) h
  show 8 + (maxL + 11) + 48 * f ≤ 48 * σ.1
  omega
theorem j_nmI {x : Int32} {α : Type} {r : α} {f : Int32 → Option α} (h : nm x f = some r) (K : ∀ y : Int32, f y = some r → J κ Γ σ nL w k n pc L (.int y :: st)) : J κ Γ σ nL w k n pc L (.int x :: st) := K x h
theorem j_nmJ {x : Int64} {α : Type} {r : α} {f : Int64 → Option α} (h : nm x f = some r) (K : ∀ y : Int64, f y = some r → J κ Γ σ nL w k n pc L (.long y :: st)) : J κ Γ σ nL w k n pc L (.long x :: st) := K x h
theorem j_iincN (C : jC κ Γ cc nL own ret) {i : Nat} {a : Int} {x v : Int32} {α : Type} {r : α} {f : Int32 → Option α} (h : nm v f = some r) (hd : decode cc pc = .ok (.iinc i a, 3)) (hv : L[i]? = some (some (.int x))) (hx2 : x + Int32.ofInt a = v) (hn : i < nL) (hok : jok L i = true) (K : ∀ y : Int32, f y = some r → J κ Γ σ nL w k n (pc + 3) (L.set i (some (.int y))) st) : J κ Γ σ nL w k n pc L st := j_iinc C v hd hv hx2 hn hok (K v h)
theorem j_lcmp (C : jC κ Γ cc nL own ret) {x y : Int64} (hd : decode cc pc = .ok (.lcmp, 1)) (h : J κ Γ σ nL w k n (pc + 1) L (.int (lg_cmp x y) :: st)) : J κ Γ σ nL w k n pc L (.long y :: .long x :: st) := by
  obtain ⟨p, e, s, m, args, below, meth, c, A⟩ := Γ
  obtain ⟨hx, hb, hml, hown, hts, hA, hK, -⟩ := C
  intro H locs ls hP hD hS hl
  exact W.lcmp hx hb hd (h H locs ls hP hD hS hl)
theorem tab_ne {x v : Int32} {a : Int} (h : ¬ x = v) (hv : v.toInt = a) : x.toInt ≠ a := fun e => h (Int32.toInt_inj.mp (e.trans hv.symm))
theorem tab_out {x : Int32} {lo hi : Int} (n : Nat) (hn : lo + n = hi + 1) (h : ∀ i : Nat, i < n → x.toInt ≠ lo + i) : x.toInt < lo ∨ hi < x.toInt := by
  rcases Int.lt_or_le x.toInt lo with q | q
  · exact Or.inl q
  · rcases Int.lt_or_le hi x.toInt with q2 | q2
    · exact Or.inr q2
    · exact absurd (by omega) (h (x.toInt - lo).toNat (by omega))
theorem j_tabEq (C : jC κ Γ cc nL own ret) {dflt lo hi : Int} {offs : Array Int} {len : Nat} {x v : Int32} {off a : Int} {tgt : Nat} (hd : decode cc pc = .ok (.tableswitch dflt lo hi offs, len)) (e : x = v) (hv : v.toInt = a) (h1 : lo ≤ a) (h2 : a ≤ hi) (ho : offs[(a - lo).toNat]? = some off) (ht : (pc : Int) + off = (tgt : Int)) (h : J κ Γ σ nL w k n tgt L st) : J κ Γ σ nL w k n pc L (.int x :: st) := by
  subst e
  refine j_tabIn C hd (by omega) (by omega) (off := off) ?_ ht h
  rw [hv]; exact ho
theorem j_lookEq (C : jC κ Γ cc nL own ret) {dflt : Int} {ps : Array (Int × Int)} {len : Nat} {x v : Int32} {off a : Int} {tgt : Nat} (hd : decode cc pc = .ok (.lookupswitch dflt ps, len)) (hp : (ps.toList.zip (ps.toList.drop 1)).all (fun (a, next) => a.1 < next.1) = true) (e : x = v) (hv : v.toInt = a) (ho : Op.lookupswitch.offset ps.toList dflt a = off) (ht : (pc : Int) + off = (tgt : Int)) (h : J κ Γ σ nL w k n tgt L st) : J κ Γ σ nL w k n pc L (.int x :: st) := by
  subst e
  exact j_lookup C hd hp (by rw [hv]; exact ho) ht h
def jne (x : Int32) : List Int → Prop
  | [] => True
  | a :: l => x.toInt ≠ a ∧ jne x l
theorem jne_mem {x : Int32} : ∀ {l : List Int}, jne x l → ∀ a ∈ l, x.toInt ≠ a
  | [], _, a, h => by cases h
  | b :: l, hj, a, h => by
    rcases List.mem_cons.mp h with rfl | h
    · exact hj.1
    · exact jne_mem hj.2 a h
theorem j_tabDef (C : jC κ Γ cc nL own ret) {dflt lo hi : Int} {offs : Array Int} {len : Nat} {x : Int32} {tgt : Nat} (vals : List Int) (hd : decode cc pc = .ok (.tableswitch dflt lo hi offs, len)) (hj : jne x vals) (hsz : lo + offs.size = hi + 1) (hc : (List.range offs.size).all (fun i => (offs[i]? == some dflt) || vals.contains (lo + (i : Int))) = true) (ht : (pc : Int) + dflt = (tgt : Int)) (h : J κ Γ σ nL w k n tgt L st) : J κ Γ σ nL w k n pc L (.int x :: st) := by
  by_cases h1 : x.toInt < lo
  · exact j_tabOut C hd (Or.inl h1) ht h
  · by_cases h2 : hi < x.toInt
    · exact j_tabOut C hd (Or.inr h2) ht h
    · refine j_tabIn C hd h1 h2 (off := dflt) ?_ ht h
      have h3 := List.all_eq_true.mp hc (x.toInt - lo).toNat (List.mem_range.mpr (by omega))
      rw [Bool.or_eq_true] at h3
      rcases h3 with h3 | h3
      · simpa using h3
      · have h4 : lo + (((x.toInt - lo).toNat : Nat) : Int) = x.toInt := by omega
        rw [h4] at h3
        exact absurd rfl (jne_mem hj x.toInt (by simpa using h3))
theorem look_def {x : Int32} {d : Int} : ∀ (l : List (Int × Int)), jne x (l.map (fun q => q.1)) → Op.lookupswitch.offset l d x.toInt = d
  | [], _ => rfl
  | (a, o) :: l, h => by
    rw [Op.lookupswitch.offset_cons, if_neg]
    · exact look_def l h.2
    · have := h.1
      first | exact this | exact fun e => this e.symm
theorem j_lookDef (C : jC κ Γ cc nL own ret) {dflt : Int} {ps : Array (Int × Int)} {len : Nat} {x : Int32} {tgt : Nat} (hd : decode cc pc = .ok (.lookupswitch dflt ps, len)) (hp : (ps.toList.zip (ps.toList.drop 1)).all (fun (a, next) => a.1 < next.1) = true) (hj : jne x (ps.toList.map (fun q => q.1))) (ht : (pc : Int) + dflt = (tgt : Int)) (h : J κ Γ σ nL w k n tgt L st) : J κ Γ σ nL w k n pc L (.int x :: st) :=
  j_lookup C hd hp (look_def _ hj) ht h
theorem vp_k {i : Int32} {N : Nat} (h : decide (i < 0 ∨ N ≤ i.toNatClampNeg) = false) : vp_in i N := of_decide_eq_false h
/-- calls that make nothing and whose end is one -/
theorem jfit.of {F mc' ms' f k n maxL : Nat} {post : Option Value → jW → Prop} (hf : f + 1 ≤ F) (hL : maxL ≤ 29) (hk : k ≤ mc') (hn : n ≤ ms') (hst : (st.map fun v => v.category).sum ≤ 8) : jfit (F, mc', ms', post) f 0 0 k n maxL st := ⟨hf, hL, hk, hn, hst⟩
theorem j_V (hκ : jOK κ) (C : jC κ Γ cc nL own ret) {y : MethodName} {b2 : ByteArray} {maxL f index N : Nat} {r2 : Option FieldType} {As : List Value} {a ci r : Nat} {fs : List Value} {q : vw_C} {x : Option Value} {w' : jW}
    (hM : jM κ y (ws_ y b2 maxL r2) f 0 0 (.ref a :: As) w (fun v u => v = x ∧ u = w')) (hG : GoodIn lw_all (wsV own index y.cls y (ws_ y b2 maxL r2))) (hy : y.cls ≠ "java/lang/invoke/MethodHandle" ∧ y.cls ≠ "java/lang/invoke/VarHandle" ∧ (parseMethodDescriptor y.desc).map (fun d => d.parameters.length) = some N) (hn : As.length = N)
    (he : w r = some (a, .inr (ci, fs))) (hc : κ.2.2.1[ci]? = some q) (hq : q.1 = y.cls) (hd : decode cc pc = .ok (.invokevirtual index, 3)) (hfit : jfit σ f 0 0 k n maxL st) {st0 : List Value} (hst : st0 = As.reverse ++ .ref a :: st)
    (h : J κ Γ σ nL w' k n (pc + 3) L (x.toList ++ st)) : J κ Γ σ nL w k n pc L st0 :=
  j_callV hκ C hM hG hy hn he hc hq hd hfit hst (fun v u hp => by obtain ⟨rfl, rfl⟩ := hp; exact h)
theorem j_S (hκ : jOK κ) (C : jC κ Γ cc nL own ret) {y : MethodName} {b2 : ByteArray} {maxL f index N : Nat} {r2 : Option FieldType} {As : List Value} {x : Option Value} {w' : jW}
    (hM : jM κ y (ws_ y b2 maxL r2) f 0 0 As w (fun v u => v = x ∧ u = w')) (hG : GoodIn lw_all (va_wsS own index y (ws_ y b2 maxL r2))) (hy : y.cls ≠ "java/lang/invoke/MethodHandle" ∧ y.cls ≠ "java/lang/invoke/VarHandle" ∧ (parseMethodDescriptor y.desc).map (fun d => d.parameters.length) = some N) (hn : As.length = N)
    (hd : decode cc pc = .ok (.invokestatic index, 3)) (hfit : jfit σ f 0 0 k n maxL st) {st0 : List Value} (hst : st0 = As.reverse ++ st)
    (h : J κ Γ σ nL w' k n (pc + 3) L (x.toList ++ st)) : J κ Γ σ nL w k n pc L st0 :=
  j_callS hκ C hM hG hy hn hd hfit hst (fun v u hp => by obtain ⟨rfl, rfl⟩ := hp; exact h)
theorem j_Si (hκ : jOK κ) (C : jC κ Γ cc nL own ret) {y : MethodName} {b2 : ByteArray} {maxL f index N : Nat} {r2 : Option FieldType} {As : List Value} {x : Int32} {w' : jW}
    (hM : jM κ y (ws_ y b2 maxL r2) f 0 0 As w (fun v u => v = (some (.int x)) ∧ u = w')) (hG : GoodIn lw_all (va_wsS own index y (ws_ y b2 maxL r2))) (hy : y.cls ≠ "java/lang/invoke/MethodHandle" ∧ y.cls ≠ "java/lang/invoke/VarHandle" ∧ (parseMethodDescriptor y.desc).map (fun d => d.parameters.length) = some N) (hn : As.length = N)
    (hd : decode cc pc = .ok (.invokestatic index, 3)) (hfit : jfit σ f 0 0 k n maxL st) {st0 : List Value} (hst : st0 = As.reverse ++ st)
    (h : J κ Γ σ nL w' k n (pc + 3) L (.int x :: st)) : J κ Γ σ nL w k n pc L st0 :=
  j_callS hκ C hM hG hy hn hd hfit hst (fun v u hp => by obtain ⟨rfl, rfl⟩ := hp; exact h)
theorem j_Sl (hκ : jOK κ) (C : jC κ Γ cc nL own ret) {y : MethodName} {b2 : ByteArray} {maxL f index N : Nat} {r2 : Option FieldType} {As : List Value} {x : Int64} {w' : jW}
    (hM : jM κ y (ws_ y b2 maxL r2) f 0 0 As w (fun v u => v = (some (.long x)) ∧ u = w')) (hG : GoodIn lw_all (va_wsS own index y (ws_ y b2 maxL r2))) (hy : y.cls ≠ "java/lang/invoke/MethodHandle" ∧ y.cls ≠ "java/lang/invoke/VarHandle" ∧ (parseMethodDescriptor y.desc).map (fun d => d.parameters.length) = some N) (hn : As.length = N)
    (hd : decode cc pc = .ok (.invokestatic index, 3)) (hfit : jfit σ f 0 0 k n maxL st) {st0 : List Value} (hst : st0 = As.reverse ++ st)
    (h : J κ Γ σ nL w' k n (pc + 3) L (.long x :: st)) : J κ Γ σ nL w k n pc L st0 :=
  j_callS hκ C hM hG hy hn hd hfit hst (fun v u hp => by obtain ⟨rfl, rfl⟩ := hp; exact h)
theorem j_Sv (hκ : jOK κ) (C : jC κ Γ cc nL own ret) {y : MethodName} {b2 : ByteArray} {maxL f index N : Nat} {r2 : Option FieldType} {As : List Value}  {w' : jW}
    (hM : jM κ y (ws_ y b2 maxL r2) f 0 0 As w (fun v u => v = none ∧ u = w')) (hG : GoodIn lw_all (va_wsS own index y (ws_ y b2 maxL r2))) (hy : y.cls ≠ "java/lang/invoke/MethodHandle" ∧ y.cls ≠ "java/lang/invoke/VarHandle" ∧ (parseMethodDescriptor y.desc).map (fun d => d.parameters.length) = some N) (hn : As.length = N)
    (hd : decode cc pc = .ok (.invokestatic index, 3)) (hfit : jfit σ f 0 0 k n maxL st) {st0 : List Value} (hst : st0 = As.reverse ++ st)
    (h : J κ Γ σ nL w' k n (pc + 3) L (st)) : J κ Γ σ nL w k n pc L st0 :=
  j_callS hκ C hM hG hy hn hd hfit hst (fun v u hp => by obtain ⟨rfl, rfl⟩ := hp; exact h)
end JROWS
def jent : List Value → Nat → List (Option Value)
  | [], n => List.replicate n none
  | v :: vs, n => some v :: (if v.category = 2 then none :: jent vs (n - 2) else jent vs (n - 1))
theorem jent_in : ∀ (vs : List Value) (n i0 i : Nat) (v : Value), (jent vs n)[i]? = some (some v) → (i0 + i, v) ∈ lv_args i0 vs
  | [], n, i0, i, v, h => by
    have := List.eq_of_mem_replicate (List.mem_of_getElem? h)
    cases this
  | u :: vs, n, i0, i, v, h => by
    unfold jent at h
    unfold lv_args
    cases i with
    | zero =>
      have : u = v := by simpa using h
      rw [this]
      exact List.mem_cons_self
    | succ i =>
      rw [List.getElem?_cons_succ] at h
      refine List.mem_cons_of_mem _ ?_
      by_cases hc : u.category = 2
      · rw [if_pos hc] at h ⊢
        cases i with
        | zero => simp at h
        | succ i =>
          rw [List.getElem?_cons_succ] at h
          have := jent_in vs (n - 2) (i0 + 2) i v h
          rw [show i0 + 2 + i = i0 + (i + 1 + 1) by omega] at this
          exact this
      · rw [if_neg hc] at h ⊢
        have := jent_in vs (n - 1) (i0 + 1) i v h
        rw [show i0 + 1 + i = i0 + (i + 1) by omega] at this
        exact this
def jnm (Γ : jG) (nm : String) : Prop := match Γ with
  | (_, _, _, _, _, _, meth, _, _) => meth.name = nm
/-- a method's contract out of its walk -/
theorem jM.of {κ : jK} {y : MethodName} {cc : ByteArray} {nL f mc ms : Nat} {own : String} {ret : Option FieldType} {av : List Value} {w : jW} {post : Option Value → jW → Prop} (hy : plainName y.cls = true) (ho : y.cls = own) (hlen : (lg_sl av).length ≤ nL)
    (body : ∀ Γ : jG, jC κ Γ cc nL own ret → jnm Γ y.name → J κ Γ (f, mc, ms, post) nL w 0 0 0 (jent av nL) []) : jM κ y (ws_ y cc nL ret) f mc ms av w post := by
  subst ho
  intro sz
  refine Met.ofW (cc := cc) (maxL := nL) (ret := ret) hy rfl ?_
  intro p e s m args below meth c s₁ B hml hv
  obtain ⟨rfl, hsz, hP, hK, hD0, hX, hc1, hc2, hZ⟩ := hv
  have hts0 := atoms_spec (ws := ws_ y cc nL ret) B.pre
  have hts : ∀ w ∈ lw_all, w.before _ s = true := fun w h => hts0 w (List.mem_cons_of_mem _ h)
  have hown : s.vm.findClass y.cls = some m.cls := findClass_of_methodNamed B.named
  have hin : meth.name = y.name := (name_of_methodNamed B.named B.method).1
  subst hsz
  have hl := lv_entry av (n := nL) hlen
  rw [lg_entry_eq]
  generalize (lg_sl av ++ List.replicate (nL - (lg_sl av).length) Slot.unset).toArray = ls at hl ⊢
  have hl' : jL ls nL (jent av nL) := ⟨hl.1, hl.2.1, fun i v h => hl.2.2 (i, v) (by simpa using jent_in av nL 0 i v h)⟩
  refine body (p, e, s, m, av.toArray, below, meth, c, jA w s.heap.size) ⟨B.exec, B.bytes, hml, hown, hts, fun q h => Or.inr h, hK, hX, hc1, ?_, hZ, B.notSynchronized, B.returns⟩ hin s.heap [] ls hP hD0.self va_S.rf hl'
  rintro r q hq (⟨r', e', h⟩ | h)
  · exact hc2 r r' q (q.1, e') hq h rfl
  · exact absurd (hc1 r q hq).lt (by omega)

