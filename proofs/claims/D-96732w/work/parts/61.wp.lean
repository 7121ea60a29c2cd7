/-! OBJECTS MADE: what is shown of a method that makes objects is a transformer of what is to hold behind it. Own text. -/
set_option maxRecDepth 100000
def nmP {α : Type} (x : α) (f : α → Prop) : Prop := f x
def chkP (N : Nat) (i : Int32) (K : Prop) : Prop := vp_in i N ∧ K
theorem chkP_some {N : Nat} {i : Int32} {K : Prop} (h : chkP N i K) : vp_in i N ∧ K := h
def nzP (i : Int32) (K : Prop) : Prop := ¬ i = 0 ∧ K
theorem nzP_some {i : Int32} {K : Prop} (h : nzP i K) : ¬ i = 0 ∧ K := h
def bindP {α : Type} (x : Option α) (f : α → Prop) : Prop := ∃ v, x = some v ∧ f v
theorem obP {α : Type} {x : Option α} {f : α → Prop} (h : bindP x f) : ∃ v, x = some v ∧ f v := h
def b2P {α β : Type} (x : Option (α × β)) (f : α → β → Prop) : Prop := ∃ v t, x = some (v, t) ∧ f v t
theorem ob2P {α β : Type} {x : Option (α × β)} {f : α → β → Prop} (h : b2P x f) : ∃ v t, x = some (v, t) ∧ f v t := h
def onlP {α : Type} (e : Option α) (A : Prop) (B : α → Prop) : Prop := (e = none ∧ A) ∨ ∃ a, e = some a ∧ B a
theorem onlP_some {α : Type} {e : Option α} {A : Prop} {B : α → Prop} (h : onlP e A B) : (e = none ∧ A) ∨ ∃ a, e = some a ∧ B a := h
theorem ipP {c : Prop} [Decidable c] {a b : Prop} (hc : c) (h : if c then a else b) : a := by rwa [if_pos hc] at h
theorem imP {c : Prop} [Decidable c] {a b : Prop} (hc : ¬ c) (h : if c then a else b) : b := by rwa [if_neg hc] at h
def budP (m c : Nat) (f : Nat → Prop) : Prop := ∃ m2, m = m2 + c ∧ f m2
def splP (m : Nat) (f : Nat → Nat → Prop) : Prop := ∃ m1 m2, m = m1 + m2 ∧ f m1 m2
/-- for every address that is free -/
def newP (T : XS) (f : Nat → Prop) : Prop := ∀ q : Nat, T.2.2.2 q = none → f q
def mkO (t : Nat) (is : List Int32) (rs : List (Option Nat)) : XO := (t, fun k => is.getD k 0, fun k => rs.getD k none, 0, fun _ => 0, fun _ => 0)
/-- an object as it is made -/
def rawO (t : Nat) : XO := mkO (64 + t) [] []
theorem obE_raw (κ : jK) (G : Nat → Nat) (t : Nat) : obE κ G (rawO t) = .inr (oCi t, rawF t) := by
  have h1 : ¬ 64 + t < 30 := by omega
  have h2 : 64 ≤ 64 + t := by omega
  show (if 64 + t < 30 then _ else if 64 ≤ 64 + t then _ else _) = _
  have e : (rawO t).1 - 64 = t := by show 64 + t - 64 = t; omega
  rw [if_neg h1, if_pos h2, e]
theorem wX_raw (κ : jK) (G : Nat → Nat) (T : XS) (q t : Nat) : wX κ G (xO T q (rawO t)) = jset (wX κ G T) (100 + q) (q, .inr (oCi t, rawF t)) := by
  rw [← wX_sO, obE_raw]
theorem wX_mkO (κ : jK) (G : Nat → Nat) (T : XS) (q t : Nat) (ht : t < 30) (is : List Int32) (rs : List (Option Nat)) : wX κ G (xO T q (mkO t is rs)) = jset (wX κ G T) (100 + q) (q, .inr (oCi t, fsO G (mkO t is rs))) := by
  rw [← wX_sO, obE_o (t := t) rfl ht]
section WPX
variable {κ : jK} {Γ : jG} {σ : jS} {nL : Nat} {pc : Nat} {L : List (Option Value)} {st : List Value} {cc : ByteArray} {own : String} {ret : Option FieldType} {G : Nat → Nat} {T : XS} {a b : Nat}
theorem j_nmIP {w : jW} {k n : Nat} {x : Int32} {f : Int32 → Prop} (h : nmP x f) (K : ∀ y : Int32, f y → J κ Γ σ nL w k n pc L (.int y :: st)) : J κ Γ σ nL w k n pc L (.int x :: st) := K x h
theorem jx_nmTP {w : XS} {f : XS → Prop} (h : nmP w f) (K : ∀ T : XS, f T → J κ Γ σ nL (wX κ G T) a b pc L st) : J κ Γ σ nL (wX κ G w) a b pc L st := K w h
theorem j_iincNP (C : jC κ Γ cc nL own ret) {w : jW} {k n : Nat} {i : Nat} {z : Int} {x v : Int32} {f : Int32 → Prop} (h : nmP v f) (hd : decode cc pc = .ok (.iinc i z, 3)) (hv : L[i]? = some (some (.int x))) (hx2 : x + Int32.ofInt z = v) (hn : i < nL) (hok : jok L i = true) (K : ∀ y : Int32, f y → J κ Γ σ nL w k n (pc + 3) (L.set i (some (.int y))) st) : J κ Γ σ nL w k n pc L st :=
  j_iinc C v hd hv hx2 hn hok (K v h)
theorem jx_new (hκ : jX κ) (C : jC κ Γ cc nL own ret) (t : Nat) {C' : String} {Tt : u_T} {N index : Nat} (hin : ∀ w ∈ u_ws C' Tt N, w ∈ lw_all) (ty : Nat → FieldType) (hty : ∀ k, k < N → parseFieldDescriptor (Tt k).2.2.1 = some (ty k)) (hcl : Cond.classLink own index C' ∈ lw_all) (hinst : Cond.instantiable C' N ∈ lw_all) (hini : Cond.initialized C' ∈ lw_all) (hc : jCl[oCi t]? = some (C', Tt, N)) (hfs : ∀ j, j < N → defaultValue (ty j) = vp_V (rawF t) j) (hN : N ≤ 64) (hk : a + 1 ≤ σ.2.1) (hn : b + 64 ≤ σ.2.2.1) (hd : decode cc pc = .ok (.new index, 3)) {f : Nat → Prop} (h : newP T f)
    (K : ∀ q : Nat, f q → J κ Γ σ nL (wX κ G (xO T q (rawO t))) (a + 1) (b + 64) (pc + 3) L (.ref q :: st)) : J κ Γ σ nL (wX κ G T) a b pc L st := by
  refine j_new C hin ty hty hcl hinst hini (hκ.cl hc) (fs := rawF t) hfs hk (by omega) (fun q => 100 + q) hd fun q hq => ?_
  have hf : T.2.2.2 q = none := by
    cases hx : T.2.2.2 q with
    | none => rfl
    | some x => exact absurd rfl (hq (100 + q) _ (wX_ob κ G T hx))
  refine j_widen (k' := a + 1) (n' := b + 64) (Nat.le_refl _) (by omega) ?_
  rw [← wX_raw]
  exact K q (h q hf)
theorem jx_newB (hκ : jX κ) (C : jC κ Γ cc nL own ret) (t : Nat) {C' : String} {Tt : u_T} {N index k : Nat} (hin : ∀ w ∈ u_ws C' Tt N, w ∈ lw_all) (ty : Nat → FieldType) (hty : ∀ k, k < N → parseFieldDescriptor (Tt k).2.2.1 = some (ty k)) (hcl : Cond.classLink own index C' ∈ lw_all) (hinst : Cond.instantiable C' N ∈ lw_all) (hini : Cond.initialized C' ∈ lw_all) (hc : jCl[oCi t]? = some (C', Tt, N)) (hfs : ∀ j, j < N → defaultValue (ty j) = vp_V (rawF t) j) (hN : N ≤ 64) (hk : k + 1 ≤ σ.2.1) (hn : 64 * k + 64 ≤ σ.2.2.1) (hd : decode cc pc = .ok (.new index, 3)) {f : Nat → Prop} (h : newP T f)
    (K : ∀ q : Nat, f q → J κ Γ σ nL (wX κ G (xO T q (rawO t))) (k + 1) (64 * (k + 1)) (pc + 3) L (.ref q :: st)) : J κ Γ σ nL (wX κ G T) k (64 * k) pc L st :=
  jx_new hκ C t hin ty hty hcl hinst hini hc hfs hN hk hn hd h fun q hq => K q hq
theorem jx_I (hκ : jX κ) (C : jC κ Γ cc nL own ret) {y : MethodName} {b2 : ByteArray} {maxL f index N : Nat} {As : List Value} {q : Nat} {T' : XS}
    (hM : jM κ y (ws_ y b2 maxL none) f 0 0 (.ref q :: As) (wX κ G T) (fun u w' => u = none ∧ w' = wX κ G T')) (hG : Cond.code y b2 maxL none ∈ lw_all) (hini : Cond.initialized y.cls ∈ lw_all) (hlink : Cond.methodLink own index y ∈ lw_all) (hinst : Cond.instanceMethod y ∈ lw_all) (hy1 : y.name = "<init>") (hy : y.cls ≠ "java/lang/invoke/MethodHandle" ∧ y.cls ≠ "java/lang/invoke/VarHandle" ∧ (parseMethodDescriptor y.desc).map (fun d => d.parameters.length) = some N) (hn : As.length = N)
    (hd : decode cc pc = .ok (.invokespecial index, 3)) (hfit : jfit σ f 0 0 a b maxL st) {st0 : List Value} (hst : st0 = As.reverse ++ .ref q :: st)
    (h : J κ Γ σ nL (wX κ G T') a b (pc + 3) L st) : J κ Γ σ nL (wX κ G T) a b pc L st0 :=
  j_callI hκ.1.1 C hM hG hini hlink hinst hy1 hy hn hd hfit hst (fun u w' hp => by obtain ⟨rfl, rfl⟩ := hp; exact h)
theorem jx_IN (hκ : jX κ) (C : jC κ Γ cc nL own ret) {y : MethodName} {b2 : ByteArray} {maxL f index N : Nat} {host : String} {As : List Value} {q : Nat} {T' : XS}
    (hM : jM κ y (ws_ y b2 maxL none) f 0 0 (.ref q :: As) (wX κ G T) (fun u w' => u = none ∧ w' = wX κ G T')) (hG : Cond.code y b2 maxL none ∈ lw_all) (hini : Cond.initialized y.cls ∈ lw_all) (hlink : Cond.methodLinkNest own index y host ∈ lw_tbl) (hinst : Cond.instanceMethod y ∈ lw_all) (hy1 : y.name = "<init>") (hy : y.cls ≠ "java/lang/invoke/MethodHandle" ∧ y.cls ≠ "java/lang/invoke/VarHandle" ∧ (parseMethodDescriptor y.desc).map (fun d => d.parameters.length) = some N) (hn : As.length = N)
    (hd : decode cc pc = .ok (.invokespecial index, 3)) (hfit : jfit σ f 0 0 a b maxL st) {st0 : List Value} (hst : st0 = As.reverse ++ .ref q :: st)
    (h : J κ Γ σ nL (wX κ G T') a b (pc + 3) L st) : J κ Γ σ nL (wX κ G T) a b pc L st0 :=
  j_callIN hκ C hM hG hini hlink hinst hy1 hy hn hd hfit hst (fun u w' hp => by obtain ⟨rfl, rfl⟩ := hp; exact h)
theorem jx_VQ (hκ : jX κ) (C : jC κ Γ cc nL RX0 ret) {y : MethodName} {b2 : ByteArray} {maxL f mc ms index N : Nat} {r2 : Option FieldType} {As : List Value} {α : Type} {F : α → Value} {Q : α → XS → Prop}
    (hM : jM κ y (ws_ y b2 maxL r2) f mc ms (.ref (G 0) :: As) (wX κ G T) (fun u w' => ∃ v T', Q v T' ∧ u = some (F v) ∧ w' = wX κ G T')) (hG : GoodIn lw_all (wsV RX0 index y.cls y (ws_ y b2 maxL r2))) (hy : y.cls ≠ "java/lang/invoke/MethodHandle" ∧ y.cls ≠ "java/lang/invoke/VarHandle" ∧ (parseMethodDescriptor y.desc).map (fun d => d.parameters.length) = some N) (hn : As.length = N) (hq : RX0 = y.cls) (hd : decode cc pc = .ok (.invokevirtual index, 3)) (hfit : jfit σ f mc ms a b maxL st) {st0 : List Value} (hst : st0 = As.reverse ++ .ref (G 0) :: st)
    (h : ∀ (v : α) (T' : XS), Q v T' → J κ Γ σ nL (wX κ G T') (a + mc) (b + ms) (pc + 3) L (F v :: st)) : J κ Γ σ nL (wX κ G T) a b pc L st0 :=
  j_callV hκ.1.1 C hM hG hy hn (r := 0) rfl (ci := ciX0) (q := (RX0, TX0, 49)) (hκ.cl rfl) hq hd hfit hst (fun u w' hp => by obtain ⟨v, T', h1, rfl, rfl⟩ := hp; exact h v T' h1)
theorem jx_VQB (hκ : jX κ) (C : jC κ Γ cc nL RX0 ret) {y : MethodName} {b2 : ByteArray} {maxL f k m1 index N : Nat} {r2 : Option FieldType} {As : List Value} {α : Type} {F : α → Value} {Q : α → XS → Prop}
    (hM : jM κ y (ws_ y b2 maxL r2) f m1 (64 * m1) (.ref (G 0) :: As) (wX κ G T) (fun u w' => ∃ v T', Q v T' ∧ u = some (F v) ∧ w' = wX κ G T')) (hG : GoodIn lw_all (wsV RX0 index y.cls y (ws_ y b2 maxL r2))) (hy : y.cls ≠ "java/lang/invoke/MethodHandle" ∧ y.cls ≠ "java/lang/invoke/VarHandle" ∧ (parseMethodDescriptor y.desc).map (fun d => d.parameters.length) = some N) (hn : As.length = N) (hq : RX0 = y.cls) (hd : decode cc pc = .ok (.invokevirtual index, 3)) (hfit : jfit σ f m1 (64 * m1) k (64 * k) maxL st) {st0 : List Value} (hst : st0 = As.reverse ++ .ref (G 0) :: st)
    (h : ∀ (v : α) (T' : XS), Q v T' → J κ Γ σ nL (wX κ G T') (k + m1) (64 * (k + m1)) (pc + 3) L (F v :: st)) : J κ Γ σ nL (wX κ G T) k (64 * k) pc L st0 :=
  j_callV hκ.1.1 C hM hG hy hn (r := 0) rfl (ci := ciX0) (q := (RX0, TX0, 49)) (hκ.cl rfl) hq hd hfit hst (fun u w' hp => by obtain ⟨v, T', h1, rfl, rfl⟩ := hp; rw [← Nat.mul_add]; exact h v T' h1)
theorem jx_OQ (hκ : jX κ) (C : jC κ Γ cc nL own ret) {y : MethodName} {b2 : ByteArray} {maxL f mc ms index N : Nat} {r2 : Option FieldType} {As : List Value} {t q : Nat} {xo : XO} {vc : vw_C} {α : Type} {F : α → Value} {Q : α → XS → Prop}
    (hM : jM κ y (ws_ y b2 maxL r2) f mc ms (.ref q :: As) (wX κ G T) (fun u w' => ∃ v T', Q v T' ∧ u = some (F v) ∧ w' = wX κ G T')) (hG : GoodIn lw_all (wsV own index y.cls y (ws_ y b2 maxL r2))) (hy : y.cls ≠ "java/lang/invoke/MethodHandle" ∧ y.cls ≠ "java/lang/invoke/VarHandle" ∧ (parseMethodDescriptor y.desc).map (fun d => d.parameters.length) = some N) (hn : As.length = N) (hx : getO T q t = some xo) (ht : t < 30) (hc : jCl[oCi t]? = some vc) (hq : vc.1 = y.cls) (hd : decode cc pc = .ok (.invokevirtual index, 3)) (hfit : jfit σ f mc ms a b maxL st) {st0 : List Value} (hst : st0 = As.reverse ++ .ref q :: st)
    (h : ∀ (v : α) (T' : XS), Q v T' → J κ Γ σ nL (wX κ G T') (a + mc) (b + ms) (pc + 3) L (F v :: st)) : J κ Γ σ nL (wX κ G T) a b pc L st0 :=
  j_callV hκ.1.1 C hM hG hy hn (r := 100 + q) (wX_obt hx ht) (hκ.cl hc) hq hd hfit hst (fun u w' hp => by obtain ⟨v, T', h1, rfl, rfl⟩ := hp; exact h v T' h1)
end WPX
