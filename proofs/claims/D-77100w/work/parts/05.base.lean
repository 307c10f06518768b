/-! PARTIAL FUNCTIONS: a loop is the repetition of a step that goes on (inl) or ends (inr); none: it doesn't end, or something is refused -/
def lpn {α β : Type} (st : α → Option (α ⊕ β)) : Nat → α → Option β
  | 0, _ => none
  | n + 1, a => (st a).bind (fun x => Sum.elim (lpn st n) some x)
theorem lpn_succ {α β : Type} (st : α → Option (α ⊕ β)) (n : Nat) (a : α) : lpn st (n + 1) a = (st a).bind (fun x => Sum.elim (lpn st n) some x) := rfl
theorem k_bind {α β : Type} {x : Option α} {f : α → Option β} {b : β} {P : Prop} (h : x.bind f = some b) (k : ∀ a, x = some a → f a = some b → P) : P := by
  cases x with
  | none => cases h
  | some a => exact k a rfl h
theorem lpn_up {α β : Type} {st : α → Option (α ⊕ β)} : ∀ {n : Nat} {a : α} {b : β}, lpn st n a = some b → ∀ k, lpn st (n + k) a = some b := by
  intro n
  induction n with
  | zero => intro a b h; cases h
  | succ n ih =>
    intro a b h k
    rw [lpn_succ] at h
    refine k_bind h (fun x h1 h2 => ?_)
    rw [Nat.succ_add, lpn_succ, h1]
    cases x with
    | inl a' => exact ih h2 k
    | inr b' => exact h2
noncomputable def lpw {α β : Type} (st : α → Option (α ⊕ β)) (a : α) : Option β :=
  @dite (Option β) (∃ b n, lpn st n a = some b) (Classical.propDecidable _) (fun h => some (Classical.choose h)) (fun _ => none)
theorem lpw_some {α β : Type} {st : α → Option (α ⊕ β)} {a : α} {b : β} : lpw st a = some b ↔ ∃ n, lpn st n a = some b := by
  constructor
  · intro h
    unfold lpw at h
    split at h
    · next q =>
      obtain rfl := Option.some.inj h
      exact Classical.choose_spec q
    · cases h
  · rintro ⟨n, h⟩
    have q : ∃ b n, lpn st n a = some b := ⟨b, n, h⟩
    unfold lpw
    rw [dif_pos q]
    obtain ⟨k, hk⟩ := Classical.choose_spec q
    have e1 := lpn_up hk n
    have e2 := lpn_up h k
    rw [Nat.add_comm] at e2
    rw [← e1, e2]
/-- a loop, unrolled once -/
theorem lpw_eq {α β : Type} (st : α → Option (α ⊕ β)) (a : α) : lpw st a = (st a).bind (fun x => Sum.elim (lpw st) some x) := by
  have key : ∀ b, lpw st a = some b ↔ (st a).bind (fun x => Sum.elim (lpw st) some x) = some b := by
    intro b
    constructor
    · intro h
      obtain ⟨n, h⟩ := lpw_some.mp h
      cases n with
      | zero => cases h
      | succ n =>
        rw [lpn_succ] at h
        refine k_bind h (fun x h1 h2 => ?_)
        rw [h1]
        cases x with
        | inl a' => exact lpw_some.mpr ⟨n, h2⟩
        | inr b' => exact h2
    · intro h
      refine k_bind h (fun x h1 h2 => ?_)
      cases x with
      | inl a' =>
        obtain ⟨n, h3⟩ := lpw_some.mp h2
        exact lpw_some.mpr ⟨n + 1, by rw [lpn_succ, h1]; exact h3⟩
      | inr b' => exact lpw_some.mpr ⟨1, by rw [lpn_succ, h1]; exact h2⟩
  cases h : lpw st a with
  | some b => exact ((key b).mp h).symm
  | none =>
    cases h2 : (st a).bind (fun x => Sum.elim (lpw st) some x) with
    | none => rfl
    | some b => rw [(key b).mpr h2] at h; cases h
/-- what holds at a loop's head, by its step -/
theorem lpw_go {α β : Type} (st : α → Option (α ⊕ β)) (P : α → Prop) (E : β → Prop) (body : ∀ a x, st a = some x → (∀ a', x = .inl a' → P a') → (∀ b', x = .inr b' → E b') → P a) : ∀ a b, lpw st a = some b → E b → P a := by
  have key : ∀ n a b, lpn st n a = some b → E b → P a := by
    intro n
    induction n with
    | zero => intro a b h; cases h
    | succ n ih =>
      intro a b h hE
      rw [lpn_succ] at h
      refine k_bind h (fun x h1 h2 => ?_)
      refine body a x h1 (fun a' e => ?_) (fun b' e => ?_)
      · subst e
        exact ih a' b h2 hE
      · subst e
        obtain rfl := Option.some.inj h2
        exact hE
  intro a b h hE
  obtain ⟨n, h⟩ := lpw_some.mp h
  exact key n a b h hE
/-- an invariant and a measure: the loop ends -/
theorem lpw_ends {α β : Type} (st : α → Option (α ⊕ β)) (I : α → Prop) (μ : α → Nat) (E : β → Prop) (body : ∀ a, I a → (∃ a', st a = some (.inl a') ∧ I a' ∧ μ a' < μ a) ∨ ∃ b, st a = some (.inr b) ∧ E b) : ∀ a, I a → ∃ b, lpw st a = some b ∧ E b := by
  have key : ∀ n a, I a → μ a < n → ∃ b, lpw st a = some b ∧ E b := by
    intro n
    induction n with
    | zero => intro a _ h; exact absurd h (Nat.not_lt_zero _)
    | succ n ih =>
      intro a ha hm
      rcases body a ha with ⟨a', h1, h2, h3⟩ | ⟨b, h1, h2⟩
      · obtain ⟨b, h4, h5⟩ := ih a' h2 (by omega)
        exact ⟨b, by rw [lpw_eq, h1]; exact h4, h5⟩
      · exact ⟨b, by rw [lpw_eq, h1]; rfl, h2⟩
  intro a ha
  exact key _ a ha (Nat.lt_succ_self _)
theorem o_t {α : Type} {c : Prop} [Decidable c] {A B r : α} (h : (if c then A else B) = r) (hc : c) : A = r := by rw [if_pos hc] at h; exact h
theorem o_f {α : Type} {c : Prop} [Decidable c] {A B r : α} (h : (if c then A else B) = r) (hc : ¬ c) : B = r := by rw [if_neg hc] at h; exact h
theorem o_l {α β γ : Type} {f : α → γ} {g : β → γ} {a : α} {r : γ} (h : Sum.elim f g (Sum.inl a) = r) : f a = r := h
theorem o_r {α β γ : Type} {f : α → γ} {g : β → γ} {a : β} {r : γ} (h : Sum.elim f g (Sum.inr a) = r) : g a = r := h
theorem o_g {α : Type} {c : Prop} [Decidable c] {B : Option α} {r : α} (h : (if c then none else B) = some r) : ¬ c ∧ B = some r := by
  by_cases hc : c
  · rw [if_pos hc] at h; cases h
  · rw [if_neg hc] at h; exact ⟨hc, h⟩
/-- the remainder, as the machine has it -/
def irm (x y : Int32) : Int32 := x - x / y * y
def lrm (x y : Int64) : Int64 := x - x / y * y
/-- shifts, as the machine has them -/
def ish (x y : Int32) : Int32 := x <<< (y &&& 31)
def isr (x y : Int32) : Int32 := x >>> (y &&& 31)
def iur (x y : Int32) : Int32 := (x.toUInt32 >>> (y.toUInt32 &&& Int32.toUInt32 31)).toInt32
def lsh (x : Int64) (y : Int32) : Int64 := x <<< (y.toInt64 &&& 63)
def lsr (x : Int64) (y : Int32) : Int64 := x >>> (y.toInt64 &&& 63)
def lur (x : Int64) (y : Int32) : Int64 := (x.toUInt64 >>> (y.toInt64.toUInt64 &&& Int64.toUInt64 63)).toInt64
theorem m_inc {x k v : Int32} (h : k = v) : x + k = x + v := by rw [h]
section ROWS
variable {p : Program} {l : Launch} {e : Env} {R : Room} {s : State} {m : MethodId} {args : Array Value} {below : List Frame} {meth : Method} {c : Code} {H : Heap} {locs : List Loc} {cells slots : Nat} {Q : State → Prop}
variable {cc : ByteArray} {pc nL : Nat} {ls : Array Slot} {rest : List Value} {rt : Option FieldType} {own : String}
/-- a computed number gets a name -/
theorem m_nmi {x y : Int32} (h : some x = some y) (k : W p l e R s m args below meth c H locs cells slots Q (F0 m pc ls (.int y :: rest))) : W p l e R s m args below meth c H locs cells slots Q (F0 m pc ls (.int x :: rest)) := by
  obtain rfl := Option.some.inj h
  exact k
theorem m_nml {x y : Int64} (h : some x = some y) (k : W p l e R s m args below meth c H locs cells slots Q (F0 m pc ls (.long y :: rest))) : W p l e R s m args below meth c H locs cells slots Q (F0 m pc ls (.long x :: rest)) := by
  obtain rfl := Option.some.inj h
  exact k
def mRm (F L : Nat) : Room := { frames := F, cells := 0, slots := 0, locals := L }
/-- what a method's walk stands on, whatever it does with the heap -/
abbrev wSt (own : String) (p : Program) (m : MethodId) (c : Code) (cc : ByteArray) (nL : Nat) (s : State) (args : Array Value) (meth : Method) (rt : Option FieldType) : Prop :=
  CallFix p m c cc nL s args lw_all own ∧ meth.sig.returnType = rt ∧ meth.locks = false
/-- a method that is called by its name alone: what a call of it asks of the tables -/
def wInfS (y : MethodName) (cy : ByteArray) (nLy : Nat) (rt : Option FieldType) (n : Nat) : Prop :=
  Cond.static y ∈ lw_all ∧ Cond.initialized y.cls ∈ lw_all ∧ Cond.code y cy nLy rt ∈ lw_all ∧ (y.cls ≠ "java/lang/invoke/MethodHandle" ∧ y.cls ≠ "java/lang/invoke/VarHandle" ∧ (parseMethodDescriptor y.desc).map (fun d => d.parameters.length) = some n)
def wInfV (y : MethodName) (cy : ByteArray) (nLy : Nat) (rt : Option FieldType) (n : Nat) : Prop :=
  Cond.instanceMethod y ∈ lw_all ∧ Cond.selects y.cls y y ∈ lw_all ∧ Cond.initialized y.cls ∈ lw_all ∧ Cond.code y cy nLy rt ∈ lw_all ∧ (y.cls ≠ "java/lang/invoke/MethodHandle" ∧ y.cls ≠ "java/lang/invoke/VarHandle" ∧ (parseMethodDescriptor y.desc).map (fun d => d.parameters.length) = some n)
/-- an answer that is computed from the arguments alone -/
def sQ (rv : Option Value) : Array Value → State → Outcome → State → Prop := fun _ st oc t => oc = .returned rv ∧ t.heap = st.heap
def sMet (l : Launch) (y : MethodName) (cy : ByteArray) (nLy : Nat) (rt : Option FieldType) (rm : Room) (av : List Value) (rv : Option Value) : Prop :=
  Met l y (ws_ y cy nLy rt) rm (va_Pc av (fun _ => True)) (sQ rv) 0 0 (fun _ => False)
theorem s_start {y : MethodName} {cy : ByteArray} {rm : Room} {av : List Value} {rv : Option Value} (hc : plainName y.cls = true) (hn : (lg_sl av).length ≤ nL)
    (k : ∀ (p : Program) (e : Env) (s : State) (m : MethodId) (args : Array Value) (below : List Frame) (meth : Method) (c : Code), wSt y.cls p m c cy nL s args meth rt → ∀ ls, lv_has ls nL (lv_args 0 av) → W p l e rm s m args below meth c s.heap [] 0 0 (MQ below (sQ rv) args s 0 0 (fun _ => False)) (F0 m 0 ls [])) : sMet l y cy nL rt rm av rv := by
  refine Met.ofW (cc := cy) (maxL := nL) (ret := rt) hc rfl ?_
  intro p e s m args below meth c s₁ B hml hv
  obtain ⟨rfl, -⟩ := hv
  have hts := atoms_spec (ws := ws_ y cy nL rt) B.pre
  have hts : ∀ w ∈ lw_all, w.before _ s = true := fun w h => hts w (List.mem_cons_of_mem _ h)
  have hl := lv_entry av (n := nL) hn
  rw [lg_entry_eq]
  exact k p e s m _ below meth c ⟨⟨B.exec, B.bytes, hml, findClass_of_methodNamed B.named, hts⟩, B.returns, B.notSynchronized⟩ _ hl
theorem s_iret {v w : Int32} {ty : FieldType} (S : wSt own p m c cc nL s args meth (some ty)) (hn : narrow ty (.int v) = .int w) (hdg : decode cc pc = .ok (.ireturn, 1)) : W p l e R s m args below meth c s.heap [] 0 0 (MQ below (sQ (some (.int w))) args s 0 0 (fun _ => False)) (F0 m pc ls [.int v]) := by
  obtain ⟨⟨hx, hb, -⟩, hr, hlocks⟩ := S
  intro T hT X
  obtain ⟨fs, hret, hrun, hended, hW, hframe⟩ := X.leave (v := some (.int w)) (fun h => by rw [hr] at h; cases h)
  have hmeth' : T.vm.method? m = some meth := X.method'
  refine ⟨T.setFrames fs, ?_, .returned (some (.int w)), hrun, hended, ⟨rfl, hT⟩, [], ⟨⟨_, rfl⟩, hW, hframe⟩, fun q h => by cases h⟩
  jvm_step X.here [X.here.top, hx, hb, hdg, hmeth', hr, hn]
  (try refine ⟨rfl, ?_⟩); (try refine ⟨rfl, ?_⟩)
  first | (intro acts; rw [hret _ acts rfl rfl rfl]) | rw [hret _ _ rfl rfl rfl]
  exact Steps.refl _
theorem s_lret {v : Int64} (S : wSt own p m c cc nL s args meth (some .long)) (hdg : decode cc pc = .ok (.lreturn, 1)) : W p l e R s m args below meth c s.heap [] 0 0 (MQ below (sQ (some (.long v))) args s 0 0 (fun _ => False)) (F0 m pc ls [.long v]) := by
  obtain ⟨⟨hx, hb, -⟩, hr, hlocks⟩ := S
  exact W.lret hx hb hr (fun t ht _ => ⟨rfl, ht⟩) (fun q h => by cases h) hdg hlocks
/-- a call of such a method -/
theorem s_call {y : MethodName} {cy : ByteArray} {nLy n idx : Nat} {rty : Option FieldType} {rm : Room} {As st : List Value} {rv : Option Value} (S : CallFix p m c cc nL s args lw_all own) (hM : sMet l y cy nLy rty rm As rv) (hI : wInfS y cy nLy rty n) (hlk : Cond.methodLink own idx y ∈ lw_all) (hrm : rm.cells = 0 ∧ rm.slots = 0) (hR : rm.frames + 1 ≤ R.frames ∧ 8 + (nLy + 11) + rm.locals ≤ R.locals) (hn : As.length = n) (hl : ls.size = nL) (hst : st = As.reverse ++ rest) (hro : (rest.map fun v => v.category).sum ≤ 8) (hdg : decode cc pc = .ok (.invokestatic idx, 3)) (hf : cells ≤ R.cells ∧ slots ≤ R.slots)
    (kk : W p l e R s m args below meth c H locs cells slots Q (F0 m (pc + 3) ls (rv.toList ++ rest))) : W p l e R s m args below meth c H locs cells slots Q (F0 m pc ls st) := by
  subst hst
  obtain ⟨h1, h2, h3, h4⟩ := hI
  have hr := va_runS (e := e) (meth := meth) (below := below) (H := H) (locs := locs) (cells := cells) (slots := slots) (g := F0 m pc ls (As.reverse ++ rest)) (As := As) (rest := rest) S hM (va_cwS n S.2.2.2.2 (lw_S hlk h1 h2 h3) rfl hrm.1 hrm.2 h4 hR) ⟨fun a U g mk q => ⟨q.1, trivial⟩, fun U _ _ => ⟨rfl, trivial⟩⟩ rfl hn hl rfl (lv_room hro) hdg hf
  intro T hT X
  obtain ⟨v, st₀, t, T', L, h0, X', hL, e1, e2, ⟨hv, hh⟩, st⟩ := hr T hT X
  cases hv
  obtain ⟨t2, a1, b1⟩ := kk T' (by rw [e1, hh, h0]) (Stand.forget X' (fun q h => (hL q h).elim))
  exact ⟨t2, st t2 a1, b1⟩
end ROWS
