/-! the reference, walked: pairs leastHalves mayGet gives -/
noncomputable def LX4_pairs_2 (rec : Int32 → Int32 → mS → Option (Int32 × mS)) (y1 : Int32) (y2 : Int32) (q : Int32 × mS) : Option ((Int32 × mS) ⊕ ((Int32 × mS) ⊕ (mS))) :=
  if (q.2.1 0) ≤ q.1 then some (Sum.inr (Sum.inr q.2)) else (mald q.2 4 y1).bind (fun v1 => if (fX4_has ((v1 &&& y2) &&& ((q.2.1 6) ^^^ (-1 : Int32))) q.1) = (0 : Int32) then some (Sum.inl (q.1 + (1 : Int32), q.2)) else (mput q.2 6 ((q.2.1 6) ||| (ish (1 : Int32) q.1))).bind (fun σ2 => (mald σ2 5 q.1).bind (fun v3 => if v3 = (-1 : Int32) then some (Sum.inr (Sum.inl (q.1, σ2))) else (mald σ2 5 q.1).bind (fun v4 => (rec v4 y2 σ2).bind (fun e5 => if e5.1 = (0 : Int32) then some (Sum.inl (q.1 + (1 : Int32), e5.2)) else some (Sum.inr (Sum.inl (q.1, e5.2))))))))
noncomputable def BX4_pairs (rec : Int32 → Int32 → mS → Option (Int32 × mS)) (x1 : Int32) (x2 : Int32) (σ : mS) : Option (Int32 × mS) :=
  (lpw (LX4_pairs_2 rec x1 x2) ((0 : Int32), σ)).bind ((fun e => Sum.elim (fun b7 => (mast b7.2 5 b7.1 x1).bind (fun σ8 => some ((1 : Int32), σ8))) (fun b9 => some ((0 : Int32), b9)) e))
noncomputable def fX4_pairs : Nat → Int32 → Int32 → mS → Option (Int32 × mS)
  | 0 => fun _ _ _ => none
  | d + 1 => BX4_pairs (fX4_pairs d)
theorem wi_X4_pairs : wInfV yX4_pairs cX4_pairs 4 (Option.some Jvm.ClassFile.FieldType.boolean) 2 := ⟨q2804, qs71, q116, q2805, (by decide +kernel), (by decide +kernel), (by decide +kernel)⟩
set_option maxHeartbeats 4000000 in
set_option maxRecDepth 100000 in
theorem wbLX4_pairs_2 {l : Launch} {G : mG} {p : Program} {e : Env} {s : State} {m : MethodId} {args : Array Value} {below : List Frame} {meth : Method} {c : Code} {d : Nat} {rec : Int32 → Int32 → mS → Option (Int32 × mS)} {Q : State → Prop} {y1 : Int32} {y2 : Int32} {q : Int32 × mS} {res : (Int32 × mS) ⊕ ((Int32 × mS) ⊕ (mS))} (S : mSt G p m c cX4_pairs 4 s args meth (Option.some Jvm.ClassFile.FieldType.boolean)) (hrec : ∀ {x1 : Int32} {x2 : Int32} {σ : mS} {res : Int32 × mS}, rec x1 x2 σ = some res → mMet l yX4_pairs cX4_pairs 4 (Option.some Jvm.ClassFile.FieldType.boolean) (mRm (d + 1) (23 * (d) + 21)) G [.ref (mo G), .int x1, .int x2] σ (some (.int res.1)) res.2) (hf : LX4_pairs_2 rec y1 y2 q = some res) (hK : ∀ q, res = Sum.inl q → (∀ (H : Heap) (locs : List Loc) (ls : Array Slot), mR G q.2 H → va_S (mA G) s.heap H locs → lv_has ls 4 [(0, .ref (mo G)), (1, .int y1), (2, .int y2), (3, .int q.1)] → W p l e (mRm (d + 1 + 1) (23 * (d + 1) + 21)) s m args below meth c H locs 0 0 Q (F0 m 2 ls []))) (hE71 : ∀ b, res = Sum.inr (Sum.inl b) → (∀ (H : Heap) (locs : List Loc) (ls : Array Slot), mR G b.2 H → va_S (mA G) s.heap H locs → lv_has ls 4 [(0, .ref (mo G)), (1, .int y1), (3, .int b.1)] → W p l e (mRm (d + 1 + 1) (23 * (d + 1) + 21)) s m args below meth c H locs 0 0 Q (F0 m 71 ls []))) (hE86 : ∀ b, res = Sum.inr (Sum.inr b) → (∀ (H : Heap) (locs : List Loc) (ls : Array Slot), mR G b H → va_S (mA G) s.heap H locs → lv_has ls 4 [(0, .ref (mo G))] → W p l e (mRm (d + 1 + 1) (23 * (d + 1) + 21)) s m args below meth c H locs 0 0 Q (F0 m 86 ls []))) : (∀ (H : Heap) (locs : List Loc) (ls : Array Slot), mR G q.2 H → va_S (mA G) s.heap H locs → lv_has ls 4 [(0, .ref (mo G)), (1, .int y1), (2, .int y2), (3, .int q.1)] → W p l e (mRm (d + 1 + 1) (23 * (d + 1) + 21)) s m args below meth c H locs 0 0 Q (F0 m 2 ls [])) := by
  replace hf : (if (q.2.1 0) ≤ q.1 then some (Sum.inr (Sum.inr q.2)) else (mald q.2 4 y1).bind (fun v1 => if (fX4_has ((v1 &&& y2) &&& ((q.2.1 6) ^^^ (-1 : Int32))) q.1) = (0 : Int32) then some (Sum.inl (q.1 + (1 : Int32), q.2)) else (mput q.2 6 ((q.2.1 6) ||| (ish (1 : Int32) q.1))).bind (fun σ2 => (mald σ2 5 q.1).bind (fun v3 => if v3 = (-1 : Int32) then some (Sum.inr (Sum.inl (q.1, σ2))) else (mald σ2 5 q.1).bind (fun v4 => (rec v4 y2 σ2).bind (fun e5 => if e5.1 = (0 : Int32) then some (Sum.inl (q.1 + (1 : Int32), e5.2)) else some (Sum.inr (Sum.inl (q.1, e5.2))))))))) = some res := hf
  obtain ⟨hx, hb, hml, hown, hts⟩ := S.1.1
  intro H locs ls hR hS hl
  refine lv_iload_n hx hb dX4_pairs_2 rfl (lv_at hl 3 rfl) ?_
  refine lv_aload_n hx hb dX4_pairs_3 rfl (lv_at hl 0 rfl) ?_
  refine m_geti (k := 0) S hR (by decide) (by decide) q2526 dX4_pairs_4 ?_
  refine lv_icmp_ge (tgt := 86) hx hb dX4_pairs_7 (by decide) (fun c_7 => ?_) (fun c_7 => ?_)
  · replace hf := o_t hf c_7
    exact hE86 _ (Option.some.inj hf).symm _ _ _ hR hS (lv_sub (l' := [(0, .ref (mo G))]) hl [0] rfl)
  · replace hf := o_f hf c_7
    refine lv_aload_n hx hb dX4_pairs_10 rfl (lv_at hl 0 rfl) ?_
    refine m_geta (k := 4) S hR (by decide) (by decide) q2530 dX4_pairs_11 ?_
    refine lv_iload_n hx hb dX4_pairs_14 rfl (lv_at hl 1 rfl) ?_
    refine k_bind hf (fun v1 hv1 hf => ?_)
    refine m_iald S hR hv1 dX4_pairs_15 ?_
    refine lv_iload_n hx hb dX4_pairs_16 rfl (lv_at hl 2 rfl) ?_
    refine lv_iand hx hb dX4_pairs_17 ?_
    refine lv_aload_n hx hb dX4_pairs_18 rfl (lv_at hl 0 rfl) ?_
    refine m_geti (k := 6) S hR (by decide) (by decide) q2532 dX4_pairs_19 ?_
    refine lv_iconst (v := -1) hx hb dX4_pairs_22 (by decide) ?_
    refine lv_ixor hx hb dX4_pairs_23 ?_
    refine lv_iand hx hb dX4_pairs_24 ?_
    refine lv_iload_n hx hb dX4_pairs_25 rfl (lv_at hl 3 rfl) ?_
    refine s_call (As := [.int ((v1 &&& y2) &&& ((q.2.1 6) ^^^ (-1 : Int32))), .int q.1]) (rest := []) S.1.1 (met_X4_has rfl) wi_X4_has q2750 ⟨rfl, rfl⟩ ⟨by simp only [mRm]; omega, by simp only [mRm]; omega⟩ rfl hl.1 rfl (Nat.le_of_ble_eq_true rfl) dX4_pairs_26 ⟨Nat.zero_le _, Nat.zero_le _⟩ ?_
    refine lv_if_ne (tgt := 35) hx hb dX4_pairs_29 (by decide) (fun c_29 => ?_) (fun c_29 => ?_)
    · replace hf := o_f hf c_29
      refine lv_aload_n hx hb dX4_pairs_35 rfl (lv_at hl 0 rfl) ?_
      refine lv_dup hx hb dX4_pairs_36 rfl ?_
      refine m_geti (k := 6) S hR (by decide) (by decide) q2532 dX4_pairs_37 ?_
      refine lv_iconst (v := 1) hx hb dX4_pairs_40 (by decide) ?_
      refine lv_iload_n hx hb dX4_pairs_41 rfl (lv_at hl 3 rfl) ?_
      refine lv_ishl hx hb dX4_pairs_42 ?_
      refine lv_ior hx hb dX4_pairs_43 ?_
      refine k_bind hf (fun σ2 hσ2 hf => ?_)
      refine m_puti (k := 6) S hR hS hσ2 (by decide) (by decide) rfl rfl rfl rfl q2532 dX4_pairs_44 (fun H locs hR hS => ?_)
      refine lv_aload_n hx hb dX4_pairs_47 rfl (lv_at hl 0 rfl) ?_
      refine m_geta (k := 5) S hR (by decide) (by decide) q2531 dX4_pairs_48 ?_
      refine lv_iload_n hx hb dX4_pairs_51 rfl (lv_at hl 3 rfl) ?_
      refine k_bind hf (fun v3 hv3 hf => ?_)
      refine m_iald S hR hv3 dX4_pairs_52 ?_
      refine lv_iconst (v := -1) hx hb dX4_pairs_53 (by decide) ?_
      refine lv_icmp_eq (tgt := 71) hx hb dX4_pairs_54 (by decide) (fun c_54 => ?_) (fun c_54 => ?_)
      · replace hf := o_t hf c_54
        exact hE71 _ (Option.some.inj hf).symm _ _ _ hR hS (lv_sub (l' := [(0, .ref (mo G)), (1, .int y1), (3, .int q.1)]) hl [0, 1, 3] rfl)
      · replace hf := o_f hf c_54
        refine lv_aload_n hx hb dX4_pairs_57 rfl (lv_at hl 0 rfl) ?_
        refine lv_aload_n hx hb dX4_pairs_58 rfl (lv_at hl 0 rfl) ?_
        refine m_geta (k := 5) S hR (by decide) (by decide) q2531 dX4_pairs_59 ?_
        refine lv_iload_n hx hb dX4_pairs_62 rfl (lv_at hl 3 rfl) ?_
        refine k_bind hf (fun v4 hv4 hf => ?_)
        refine m_iald S hR hv4 dX4_pairs_63 ?_
        refine lv_iload_n hx hb dX4_pairs_64 rfl (lv_at hl 2 rfl) ?_
        refine k_bind hf (fun e5 he5 hf => ?_)
        refine m_call (As := [.int v4, .int y2]) (rest := []) S hR hS (hrec he5) wi_X4_pairs rfl q2802 ⟨rfl, rfl⟩ ⟨by simp only [mRm]; omega, by simp only [mRm]; omega⟩ rfl hl.1 rfl (Nat.le_of_ble_eq_true rfl) dX4_pairs_65 (fun H locs hR hS => ?_)
        refine lv_if_eq (tgt := 80) hx hb dX4_pairs_68 (by decide) (fun c_68 => ?_) (fun c_68 => ?_)
        · replace hf := o_t hf c_68
          refine lv_iinc (lv' := [(3, .int (q.1 + (1 : Int32))), (0, .ref (mo G)), (1, .int y1), (2, .int y2)]) hx hb dX4_pairs_80 hl (k := 3) rfl (m_inc (by decide)) (by decide) rfl (fun ls hl => ?_)
          refine lv_goto (tgt := 2) hx hb dX4_pairs_83 (by decide) ?_
          exact hK _ (Option.some.inj hf).symm _ _ _ hR hS (lv_sub (l' := [(0, .ref (mo G)), (1, .int y1), (2, .int y2), (3, .int (q.1 + (1 : Int32)))]) hl [1, 2, 3, 0] rfl)
        · replace hf := o_f hf c_68
          exact hE71 _ (Option.some.inj hf).symm _ _ _ hR hS (lv_sub (l' := [(0, .ref (mo G)), (1, .int y1), (3, .int q.1)]) hl [0, 1, 3] rfl)
    · replace hf := o_t hf c_29
      refine lv_goto (tgt := 80) hx hb dX4_pairs_32 (by decide) ?_
      refine lv_iinc (lv' := [(3, .int (q.1 + (1 : Int32))), (0, .ref (mo G)), (1, .int y1), (2, .int y2)]) hx hb dX4_pairs_80 hl (k := 3) rfl (m_inc (by decide)) (by decide) rfl (fun ls hl => ?_)
      refine lv_goto (tgt := 2) hx hb dX4_pairs_83 (by decide) ?_
      exact hK _ (Option.some.inj hf).symm _ _ _ hR hS (lv_sub (l' := [(0, .ref (mo G)), (1, .int y1), (2, .int y2), (3, .int (q.1 + (1 : Int32)))]) hl [1, 2, 3, 0] rfl)
set_option maxHeartbeats 4000000 in
set_option maxRecDepth 100000 in
theorem wLX4_pairs_2 {l : Launch} {G : mG} {p : Program} {e : Env} {s : State} {m : MethodId} {args : Array Value} {below : List Frame} {meth : Method} {c : Code} {d : Nat} {rec : Int32 → Int32 → mS → Option (Int32 × mS)} {Q : State → Prop} {y1 : Int32} {y2 : Int32} {q : Int32 × mS} {res : (Int32 × mS) ⊕ (mS)} (S : mSt G p m c cX4_pairs 4 s args meth (Option.some Jvm.ClassFile.FieldType.boolean)) (hrec : ∀ {x1 : Int32} {x2 : Int32} {σ : mS} {res : Int32 × mS}, rec x1 x2 σ = some res → mMet l yX4_pairs cX4_pairs 4 (Option.some Jvm.ClassFile.FieldType.boolean) (mRm (d + 1) (23 * (d) + 21)) G [.ref (mo G), .int x1, .int x2] σ (some (.int res.1)) res.2) (h : lpw (LX4_pairs_2 rec y1 y2) q = some res) (hE71 : ∀ b, res = (Sum.inl b) → (∀ (H : Heap) (locs : List Loc) (ls : Array Slot), mR G b.2 H → va_S (mA G) s.heap H locs → lv_has ls 4 [(0, .ref (mo G)), (1, .int y1), (3, .int b.1)] → W p l e (mRm (d + 1 + 1) (23 * (d + 1) + 21)) s m args below meth c H locs 0 0 Q (F0 m 71 ls []))) (hE86 : ∀ b, res = (Sum.inr b) → (∀ (H : Heap) (locs : List Loc) (ls : Array Slot), mR G b H → va_S (mA G) s.heap H locs → lv_has ls 4 [(0, .ref (mo G))] → W p l e (mRm (d + 1 + 1) (23 * (d + 1) + 21)) s m args below meth c H locs 0 0 Q (F0 m 86 ls []))) : (∀ (H : Heap) (locs : List Loc) (ls : Array Slot), mR G q.2 H → va_S (mA G) s.heap H locs → lv_has ls 4 [(0, .ref (mo G)), (1, .int y1), (2, .int y2), (3, .int q.1)] → W p l e (mRm (d + 1 + 1) (23 * (d + 1) + 21)) s m args below meth c H locs 0 0 Q (F0 m 2 ls [])) :=
  lpw_go _ (fun q => (∀ (H : Heap) (locs : List Loc) (ls : Array Slot), mR G q.2 H → va_S (mA G) s.heap H locs → lv_has ls 4 [(0, .ref (mo G)), (1, .int y1), (2, .int y2), (3, .int q.1)] → W p l e (mRm (d + 1 + 1) (23 * (d + 1) + 21)) s m args below meth c H locs 0 0 Q (F0 m 2 ls []))) (fun b0 => (∀ b, b0 = (Sum.inl b) → (∀ (H : Heap) (locs : List Loc) (ls : Array Slot), mR G b.2 H → va_S (mA G) s.heap H locs → lv_has ls 4 [(0, .ref (mo G)), (1, .int y1), (3, .int b.1)] → W p l e (mRm (d + 1 + 1) (23 * (d + 1) + 21)) s m args below meth c H locs 0 0 Q (F0 m 71 ls []))) ∧ (∀ b, b0 = (Sum.inr b) → (∀ (H : Heap) (locs : List Loc) (ls : Array Slot), mR G b H → va_S (mA G) s.heap H locs → lv_has ls 4 [(0, .ref (mo G))] → W p l e (mRm (d + 1 + 1) (23 * (d + 1) + 21)) s m args below meth c H locs 0 0 Q (F0 m 86 ls [])))) (fun q x hf hK hX => wbLX4_pairs_2 S hrec hf hK (fun b eb => (hX _ eb).1 b rfl) (fun b eb => (hX _ eb).2 b rfl)) q res h ⟨hE71, hE86⟩
set_option maxHeartbeats 4000000 in
set_option maxRecDepth 100000 in
theorem wBX4_pairs {d : Nat} {rec : Int32 → Int32 → mS → Option (Int32 × mS)} {l : Launch} {G : mG} {x1 : Int32} {x2 : Int32} {σ : mS} {res : Int32 × mS} (hrec : ∀ {x1 : Int32} {x2 : Int32} {σ : mS} {res : Int32 × mS}, rec x1 x2 σ = some res → mMet l yX4_pairs cX4_pairs 4 (Option.some Jvm.ClassFile.FieldType.boolean) (mRm (d + 1) (23 * (d) + 21)) G [.ref (mo G), .int x1, .int x2] σ (some (.int res.1)) res.2) (hf : BX4_pairs rec x1 x2 σ = some res) : mMet l yX4_pairs cX4_pairs 4 (Option.some Jvm.ClassFile.FieldType.boolean) (mRm (d + 1 + 1) (23 * (d + 1) + 21)) G [.ref (mo G), .int x1, .int x2] σ (some (.int res.1)) res.2 := by
  replace hf : ((lpw (LX4_pairs_2 rec x1 x2) ((0 : Int32), σ)).bind ((fun e => Sum.elim (fun b7 => (mast b7.2 5 b7.1 x1).bind (fun σ8 => some ((1 : Int32), σ8))) (fun b9 => some ((0 : Int32), b9)) e))) = some res := hf
  refine m_start (by decide) rfl (Nat.le_of_ble_eq_true rfl) ?_
  intro p e s m args below meth c S hR hS ls hl
  obtain ⟨hx, hb, hml, hown, hts⟩ := S.1.1
  have hl : lv_has ls 4 [(0, .ref (mo G)), (1, .int x1), (2, .int x2)] := hl
  refine lv_iconst (v := 0) hx hb dX4_pairs_0 (by decide) ?_
  refine lv_istore_n (lv' := [(3, .int (0 : Int32)), (0, .ref (mo G)), (1, .int x1), (2, .int x2)]) hx hb dX4_pairs_1 rfl hl (by decide) rfl (fun ls hl => ?_)
  refine k_bind hf (fun b6 hb6 hf => ?_)
  refine wLX4_pairs_2 S hrec hb6 ?_ ?_ _ _ _ hR hS (lv_sub (l' := [(0, .ref (mo G)), (1, .int x1), (2, .int x2), (3, .int (0 : Int32))]) hl [1, 2, 3, 0] rfl)
  · intro b7 eb; subst eb; intro H locs ls hR hS hl
    replace hf := o_l hf
    refine lv_aload_n hx hb dX4_pairs_71 rfl (lv_at hl 0 rfl) ?_
    refine m_geta (k := 5) S hR (by decide) (by decide) q2531 dX4_pairs_72 ?_
    refine lv_iload_n hx hb dX4_pairs_75 rfl (lv_at hl 2 rfl) ?_
    refine lv_iload_n hx hb dX4_pairs_76 rfl (lv_at hl 1 rfl) ?_
    refine k_bind hf (fun σ8 hσ8 hf => ?_)
    refine m_iast S hR hS hσ8 dX4_pairs_77 (fun H locs hR hS => ?_)
    refine lv_iconst (v := 1) hx hb dX4_pairs_78 (by decide) ?_
    obtain rfl := Option.some.inj hf
    exact m_iret S hR hS rfl dX4_pairs_79
  · intro b9 eb; subst eb; intro H locs ls hR hS hl
    replace hf := o_r hf
    refine lv_iconst (v := 0) hx hb dX4_pairs_86 (by decide) ?_
    obtain rfl := Option.some.inj hf
    exact m_iret S hR hS rfl dX4_pairs_87
set_option maxHeartbeats 4000000 in
set_option maxRecDepth 100000 in
theorem met_X4_pairs {l : Launch} {G : mG} : ∀ {d : Nat} {x1 : Int32} {x2 : Int32} {σ : mS} {res : Int32 × mS}, fX4_pairs d x1 x2 σ = some res → mMet l yX4_pairs cX4_pairs 4 (Option.some Jvm.ClassFile.FieldType.boolean) (mRm (d + 1) (23 * (d) + 21)) G [.ref (mo G), .int x1, .int x2] σ (some (.int res.1)) res.2 := by
  intro d
  induction d with
  | zero => intro  x1 x2 σ res hf; cases hf
  | succ d ih => intro  x1 x2 σ res hf; exact wBX4_pairs (fun h => ih h) hf

noncomputable def LX4_leastHalves_2 (y1 : Int32) (q : Int32 × mS) : Option ((Int32 × mS) ⊕ (mS)) :=
  if (12 : Int32) ≤ q.1 then some (Sum.inr q.2) else (mast q.2 5 q.1 (-1 : Int32)).bind (fun σ1 => some (Sum.inl (q.1 + (1 : Int32), σ1)))
noncomputable def LX4_leastHalves_25 (y1 : Int32) (q : Int32 × Int32 × mS) : Option ((Int32 × Int32 × mS) ⊕ (Int32 × mS)) :=
  if (q.2.2.1 0) ≤ q.2.1 then some (Sum.inr (q.1, q.2.2)) else (mput q.2.2 6 (0 : Int32)).bind (fun σ3 => if (fX4_has y1 q.2.1) = (0 : Int32) then (some (q.1 + (0 : Int32))).bind (fun v4 => some (Sum.inl (v4, q.2.1 + (1 : Int32), σ3))) else (fX4_pairs 16 q.2.1 y1 σ3).bind (fun e5 => if e5.1 = (0 : Int32) then (some (q.1 + (0 : Int32))).bind (fun v6 => some (Sum.inl (v6, q.2.1 + (1 : Int32), e5.2))) else (some (q.1 + (1 : Int32))).bind (fun v7 => some (Sum.inl (v7, q.2.1 + (1 : Int32), e5.2)))))
noncomputable def fX4_leastHalves (x1 : Int32) (σ : mS) : Option (Int32 × mS) :=
  (lpw (LX4_leastHalves_2 x1) ((0 : Int32), σ)).bind (fun b2 => (lpw (LX4_leastHalves_25 x1) ((0 : Int32), (0 : Int32), b2)).bind (fun b8 => some (b8.1, b8.2)))
theorem wi_X4_leastHalves : wInfV yX4_leastHalves cX4_leastHalves 4 (Option.some Jvm.ClassFile.FieldType.int) 1 := ⟨q2800, qs70, q116, q2801, (by decide +kernel), (by decide +kernel), (by decide +kernel)⟩
set_option maxHeartbeats 4000000 in
set_option maxRecDepth 100000 in
theorem wbLX4_leastHalves_2 {l : Launch} {G : mG} {p : Program} {e : Env} {s : State} {m : MethodId} {args : Array Value} {below : List Frame} {meth : Method} {c : Code} {Q : State → Prop} {y1 : Int32} {q : Int32 × mS} {res : (Int32 × mS) ⊕ (mS)} (S : mSt G p m c cX4_leastHalves 4 s args meth (Option.some Jvm.ClassFile.FieldType.int)) (hf : LX4_leastHalves_2 y1 q = some res) (hK : ∀ q, res = Sum.inl q → (∀ (H : Heap) (locs : List Loc) (ls : Array Slot), mR G q.2 H → va_S (mA G) s.heap H locs → lv_has ls 4 [(0, .ref (mo G)), (1, .int y1), (2, .int q.1)] → W p l e (mRm 18 412) s m args below meth c H locs 0 0 Q (F0 m 2 ls []))) (hE21 : ∀ b, res = Sum.inr b → (∀ (H : Heap) (locs : List Loc) (ls : Array Slot), mR G b H → va_S (mA G) s.heap H locs → lv_has ls 4 [(0, .ref (mo G)), (1, .int y1)] → W p l e (mRm 18 412) s m args below meth c H locs 0 0 Q (F0 m 21 ls []))) : (∀ (H : Heap) (locs : List Loc) (ls : Array Slot), mR G q.2 H → va_S (mA G) s.heap H locs → lv_has ls 4 [(0, .ref (mo G)), (1, .int y1), (2, .int q.1)] → W p l e (mRm 18 412) s m args below meth c H locs 0 0 Q (F0 m 2 ls [])) := by
  replace hf : (if (12 : Int32) ≤ q.1 then some (Sum.inr q.2) else (mast q.2 5 q.1 (-1 : Int32)).bind (fun σ1 => some (Sum.inl (q.1 + (1 : Int32), σ1)))) = some res := hf
  obtain ⟨hx, hb, hml, hown, hts⟩ := S.1.1
  intro H locs ls hR hS hl
  refine lv_iload_n hx hb dX4_leastHalves_2 rfl (lv_at hl 2 rfl) ?_
  refine lv_bipush (v := 12) hx hb dX4_leastHalves_3 (by decide) ?_
  refine lv_icmp_ge (tgt := 21) hx hb dX4_leastHalves_5 (by decide) (fun c_5 => ?_) (fun c_5 => ?_)
  · replace hf := o_t hf c_5
    exact hE21 _ (Option.some.inj hf).symm _ _ _ hR hS (lv_sub (l' := [(0, .ref (mo G)), (1, .int y1)]) hl [0, 1] rfl)
  · replace hf := o_f hf c_5
    refine lv_aload_n hx hb dX4_leastHalves_8 rfl (lv_at hl 0 rfl) ?_
    refine m_geta (k := 5) S hR (by decide) (by decide) q2531 dX4_leastHalves_9 ?_
    refine lv_iload_n hx hb dX4_leastHalves_12 rfl (lv_at hl 2 rfl) ?_
    refine lv_iconst (v := -1) hx hb dX4_leastHalves_13 (by decide) ?_
    refine k_bind hf (fun σ1 hσ1 hf => ?_)
    refine m_iast S hR hS hσ1 dX4_leastHalves_14 (fun H locs hR hS => ?_)
    refine lv_iinc (lv' := [(2, .int (q.1 + (1 : Int32))), (0, .ref (mo G)), (1, .int y1)]) hx hb dX4_leastHalves_15 hl (k := 2) rfl (m_inc (by decide)) (by decide) rfl (fun ls hl => ?_)
    refine lv_goto (tgt := 2) hx hb dX4_leastHalves_18 (by decide) ?_
    exact hK _ (Option.some.inj hf).symm _ _ _ hR hS (lv_sub (l' := [(0, .ref (mo G)), (1, .int y1), (2, .int (q.1 + (1 : Int32)))]) hl [1, 2, 0] rfl)
set_option maxHeartbeats 4000000 in
set_option maxRecDepth 100000 in
theorem wLX4_leastHalves_2 {l : Launch} {G : mG} {p : Program} {e : Env} {s : State} {m : MethodId} {args : Array Value} {below : List Frame} {meth : Method} {c : Code} {Q : State → Prop} {y1 : Int32} {q : Int32 × mS} {res : mS} (S : mSt G p m c cX4_leastHalves 4 s args meth (Option.some Jvm.ClassFile.FieldType.int)) (h : lpw (LX4_leastHalves_2 y1) q = some res) (hE21 : ∀ b, res = b → (∀ (H : Heap) (locs : List Loc) (ls : Array Slot), mR G b H → va_S (mA G) s.heap H locs → lv_has ls 4 [(0, .ref (mo G)), (1, .int y1)] → W p l e (mRm 18 412) s m args below meth c H locs 0 0 Q (F0 m 21 ls []))) : (∀ (H : Heap) (locs : List Loc) (ls : Array Slot), mR G q.2 H → va_S (mA G) s.heap H locs → lv_has ls 4 [(0, .ref (mo G)), (1, .int y1), (2, .int q.1)] → W p l e (mRm 18 412) s m args below meth c H locs 0 0 Q (F0 m 2 ls [])) :=
  lpw_go _ (fun q => (∀ (H : Heap) (locs : List Loc) (ls : Array Slot), mR G q.2 H → va_S (mA G) s.heap H locs → lv_has ls 4 [(0, .ref (mo G)), (1, .int y1), (2, .int q.1)] → W p l e (mRm 18 412) s m args below meth c H locs 0 0 Q (F0 m 2 ls []))) (fun b0 => (∀ b, b0 = b → (∀ (H : Heap) (locs : List Loc) (ls : Array Slot), mR G b H → va_S (mA G) s.heap H locs → lv_has ls 4 [(0, .ref (mo G)), (1, .int y1)] → W p l e (mRm 18 412) s m args below meth c H locs 0 0 Q (F0 m 21 ls [])))) (fun q x hf hK hX => wbLX4_leastHalves_2 S hf hK (fun b eb => (hX _ eb) b rfl)) q res h hE21
set_option maxHeartbeats 4000000 in
set_option maxRecDepth 100000 in
theorem wbLX4_leastHalves_25 {l : Launch} {G : mG} {p : Program} {e : Env} {s : State} {m : MethodId} {args : Array Value} {below : List Frame} {meth : Method} {c : Code} {Q : State → Prop} {y1 : Int32} {q : Int32 × Int32 × mS} {res : (Int32 × Int32 × mS) ⊕ (Int32 × mS)} (S : mSt G p m c cX4_leastHalves 4 s args meth (Option.some Jvm.ClassFile.FieldType.int)) (hf : LX4_leastHalves_25 y1 q = some res) (hK : ∀ q, res = Sum.inl q → (∀ (H : Heap) (locs : List Loc) (ls : Array Slot), mR G q.2.2 H → va_S (mA G) s.heap H locs → lv_has ls 4 [(0, .ref (mo G)), (1, .int y1), (2, .int q.1), (3, .int q.2.1)] → W p l e (mRm 18 412) s m args below meth c H locs 0 0 Q (F0 m 25 ls []))) (hE69 : ∀ b, res = Sum.inr b → (∀ (H : Heap) (locs : List Loc) (ls : Array Slot), mR G b.2 H → va_S (mA G) s.heap H locs → lv_has ls 4 [(0, .ref (mo G)), (2, .int b.1)] → W p l e (mRm 18 412) s m args below meth c H locs 0 0 Q (F0 m 69 ls []))) : (∀ (H : Heap) (locs : List Loc) (ls : Array Slot), mR G q.2.2 H → va_S (mA G) s.heap H locs → lv_has ls 4 [(0, .ref (mo G)), (1, .int y1), (2, .int q.1), (3, .int q.2.1)] → W p l e (mRm 18 412) s m args below meth c H locs 0 0 Q (F0 m 25 ls [])) := by
  replace hf : (if (q.2.2.1 0) ≤ q.2.1 then some (Sum.inr (q.1, q.2.2)) else (mput q.2.2 6 (0 : Int32)).bind (fun σ3 => if (fX4_has y1 q.2.1) = (0 : Int32) then (some (q.1 + (0 : Int32))).bind (fun v4 => some (Sum.inl (v4, q.2.1 + (1 : Int32), σ3))) else (fX4_pairs 16 q.2.1 y1 σ3).bind (fun e5 => if e5.1 = (0 : Int32) then (some (q.1 + (0 : Int32))).bind (fun v6 => some (Sum.inl (v6, q.2.1 + (1 : Int32), e5.2))) else (some (q.1 + (1 : Int32))).bind (fun v7 => some (Sum.inl (v7, q.2.1 + (1 : Int32), e5.2)))))) = some res := hf
  obtain ⟨hx, hb, hml, hown, hts⟩ := S.1.1
  intro H locs ls hR hS hl
  refine lv_iload_n hx hb dX4_leastHalves_25 rfl (lv_at hl 3 rfl) ?_
  refine lv_aload_n hx hb dX4_leastHalves_26 rfl (lv_at hl 0 rfl) ?_
  refine m_geti (k := 0) S hR (by decide) (by decide) q2526 dX4_leastHalves_27 ?_
  refine lv_icmp_ge (tgt := 69) hx hb dX4_leastHalves_30 (by decide) (fun c_30 => ?_) (fun c_30 => ?_)
  · replace hf := o_t hf c_30
    exact hE69 _ (Option.some.inj hf).symm _ _ _ hR hS (lv_sub (l' := [(0, .ref (mo G)), (2, .int q.1)]) hl [0, 2] rfl)
  · replace hf := o_f hf c_30
    refine lv_aload_n hx hb dX4_leastHalves_33 rfl (lv_at hl 0 rfl) ?_
    refine lv_iconst (v := 0) hx hb dX4_leastHalves_34 (by decide) ?_
    refine k_bind hf (fun σ3 hσ3 hf => ?_)
    refine m_puti (k := 6) S hR hS hσ3 (by decide) (by decide) rfl rfl rfl rfl q2532 dX4_leastHalves_35 (fun H locs hR hS => ?_)
    refine lv_iload_n hx hb dX4_leastHalves_38 rfl (lv_at hl 2 rfl) ?_
    refine lv_iload_n hx hb dX4_leastHalves_39 rfl (lv_at hl 1 rfl) ?_
    refine lv_iload_n hx hb dX4_leastHalves_40 rfl (lv_at hl 3 rfl) ?_
    refine s_call (As := [.int y1, .int q.2.1]) (rest := [.int q.1]) S.1.1 (met_X4_has rfl) wi_X4_has q2750 ⟨rfl, rfl⟩ ⟨Nat.le_of_ble_eq_true rfl, Nat.le_of_ble_eq_true rfl⟩ rfl hl.1 rfl (Nat.le_of_ble_eq_true rfl) dX4_leastHalves_41 ⟨Nat.zero_le _, Nat.zero_le _⟩ ?_
    refine lv_if_eq (tgt := 60) hx hb dX4_leastHalves_44 (by decide) (fun c_44 => ?_) (fun c_44 => ?_)
    · replace hf := o_t hf c_44
      refine lv_iconst (v := 0) hx hb dX4_leastHalves_60 (by decide) ?_
      refine lv_iadd hx hb dX4_leastHalves_61 ?_
      refine k_bind hf (fun v4 hv4 hf => ?_)
      refine m_nmi hv4 ?_
      refine lv_istore_n (lv' := [(2, .int v4), (0, .ref (mo G)), (1, .int y1), (3, .int q.2.1)]) hx hb dX4_leastHalves_62 rfl hl (by decide) rfl (fun ls hl => ?_)
      refine lv_iinc (lv' := [(3, .int (q.2.1 + (1 : Int32))), (2, .int v4), (0, .ref (mo G)), (1, .int y1)]) hx hb dX4_leastHalves_63 hl (k := 3) rfl (m_inc (by decide)) (by decide) rfl (fun ls hl => ?_)
      refine lv_goto (tgt := 25) hx hb dX4_leastHalves_66 (by decide) ?_
      exact hK _ (Option.some.inj hf).symm _ _ _ hR hS (lv_sub (l' := [(0, .ref (mo G)), (1, .int y1), (2, .int v4), (3, .int (q.2.1 + (1 : Int32)))]) hl [2, 3, 1, 0] rfl)
    · replace hf := o_f hf c_44
      refine lv_aload_n hx hb dX4_leastHalves_47 rfl (lv_at hl 0 rfl) ?_
      refine lv_iload_n hx hb dX4_leastHalves_48 rfl (lv_at hl 3 rfl) ?_
      refine lv_iload_n hx hb dX4_leastHalves_49 rfl (lv_at hl 1 rfl) ?_
      refine k_bind hf (fun e5 he5 hf => ?_)
      refine m_call (As := [.int q.2.1, .int y1]) (rest := [.int q.1]) S hR hS (met_X4_pairs he5) wi_X4_pairs rfl q2802 ⟨rfl, rfl⟩ ⟨Nat.le_of_ble_eq_true rfl, Nat.le_of_ble_eq_true rfl⟩ rfl hl.1 rfl (Nat.le_of_ble_eq_true rfl) dX4_leastHalves_50 (fun H locs hR hS => ?_)
      refine lv_if_eq (tgt := 60) hx hb dX4_leastHalves_53 (by decide) (fun c_53 => ?_) (fun c_53 => ?_)
      · replace hf := o_t hf c_53
        refine lv_iconst (v := 0) hx hb dX4_leastHalves_60 (by decide) ?_
        refine lv_iadd hx hb dX4_leastHalves_61 ?_
        refine k_bind hf (fun v6 hv6 hf => ?_)
        refine m_nmi hv6 ?_
        refine lv_istore_n (lv' := [(2, .int v6), (0, .ref (mo G)), (1, .int y1), (3, .int q.2.1)]) hx hb dX4_leastHalves_62 rfl hl (by decide) rfl (fun ls hl => ?_)
        refine lv_iinc (lv' := [(3, .int (q.2.1 + (1 : Int32))), (2, .int v6), (0, .ref (mo G)), (1, .int y1)]) hx hb dX4_leastHalves_63 hl (k := 3) rfl (m_inc (by decide)) (by decide) rfl (fun ls hl => ?_)
        refine lv_goto (tgt := 25) hx hb dX4_leastHalves_66 (by decide) ?_
        exact hK _ (Option.some.inj hf).symm _ _ _ hR hS (lv_sub (l' := [(0, .ref (mo G)), (1, .int y1), (2, .int v6), (3, .int (q.2.1 + (1 : Int32)))]) hl [2, 3, 1, 0] rfl)
      · replace hf := o_f hf c_53
        refine lv_iconst (v := 1) hx hb dX4_leastHalves_56 (by decide) ?_
        refine lv_goto (tgt := 61) hx hb dX4_leastHalves_57 (by decide) ?_
        refine lv_iadd hx hb dX4_leastHalves_61 ?_
        refine k_bind hf (fun v7 hv7 hf => ?_)
        refine m_nmi hv7 ?_
        refine lv_istore_n (lv' := [(2, .int v7), (0, .ref (mo G)), (1, .int y1), (3, .int q.2.1)]) hx hb dX4_leastHalves_62 rfl hl (by decide) rfl (fun ls hl => ?_)
        refine lv_iinc (lv' := [(3, .int (q.2.1 + (1 : Int32))), (2, .int v7), (0, .ref (mo G)), (1, .int y1)]) hx hb dX4_leastHalves_63 hl (k := 3) rfl (m_inc (by decide)) (by decide) rfl (fun ls hl => ?_)
        refine lv_goto (tgt := 25) hx hb dX4_leastHalves_66 (by decide) ?_
        exact hK _ (Option.some.inj hf).symm _ _ _ hR hS (lv_sub (l' := [(0, .ref (mo G)), (1, .int y1), (2, .int v7), (3, .int (q.2.1 + (1 : Int32)))]) hl [2, 3, 1, 0] rfl)
set_option maxHeartbeats 4000000 in
set_option maxRecDepth 100000 in
theorem wLX4_leastHalves_25 {l : Launch} {G : mG} {p : Program} {e : Env} {s : State} {m : MethodId} {args : Array Value} {below : List Frame} {meth : Method} {c : Code} {Q : State → Prop} {y1 : Int32} {q : Int32 × Int32 × mS} {res : Int32 × mS} (S : mSt G p m c cX4_leastHalves 4 s args meth (Option.some Jvm.ClassFile.FieldType.int)) (h : lpw (LX4_leastHalves_25 y1) q = some res) (hE69 : ∀ b, res = b → (∀ (H : Heap) (locs : List Loc) (ls : Array Slot), mR G b.2 H → va_S (mA G) s.heap H locs → lv_has ls 4 [(0, .ref (mo G)), (2, .int b.1)] → W p l e (mRm 18 412) s m args below meth c H locs 0 0 Q (F0 m 69 ls []))) : (∀ (H : Heap) (locs : List Loc) (ls : Array Slot), mR G q.2.2 H → va_S (mA G) s.heap H locs → lv_has ls 4 [(0, .ref (mo G)), (1, .int y1), (2, .int q.1), (3, .int q.2.1)] → W p l e (mRm 18 412) s m args below meth c H locs 0 0 Q (F0 m 25 ls [])) :=
  lpw_go _ (fun q => (∀ (H : Heap) (locs : List Loc) (ls : Array Slot), mR G q.2.2 H → va_S (mA G) s.heap H locs → lv_has ls 4 [(0, .ref (mo G)), (1, .int y1), (2, .int q.1), (3, .int q.2.1)] → W p l e (mRm 18 412) s m args below meth c H locs 0 0 Q (F0 m 25 ls []))) (fun b0 => (∀ b, b0 = b → (∀ (H : Heap) (locs : List Loc) (ls : Array Slot), mR G b.2 H → va_S (mA G) s.heap H locs → lv_has ls 4 [(0, .ref (mo G)), (2, .int b.1)] → W p l e (mRm 18 412) s m args below meth c H locs 0 0 Q (F0 m 69 ls [])))) (fun q x hf hK hX => wbLX4_leastHalves_25 S hf hK (fun b eb => (hX _ eb) b rfl)) q res h hE69
set_option maxHeartbeats 4000000 in
set_option maxRecDepth 100000 in
theorem met_X4_leastHalves {l : Launch} {G : mG} {x1 : Int32} {σ : mS} {res : Int32 × mS} (hf : fX4_leastHalves x1 σ = some res) : mMet l yX4_leastHalves cX4_leastHalves 4 (Option.some Jvm.ClassFile.FieldType.int) (mRm 18 412) G [.ref (mo G), .int x1] σ (some (.int res.1)) res.2 := by
  replace hf : ((lpw (LX4_leastHalves_2 x1) ((0 : Int32), σ)).bind (fun b2 => (lpw (LX4_leastHalves_25 x1) ((0 : Int32), (0 : Int32), b2)).bind (fun b8 => some (b8.1, b8.2)))) = some res := hf
  refine m_start (by decide) rfl (Nat.le_of_ble_eq_true rfl) ?_
  intro p e s m args below meth c S hR hS ls hl
  obtain ⟨hx, hb, hml, hown, hts⟩ := S.1.1
  have hl : lv_has ls 4 [(0, .ref (mo G)), (1, .int x1)] := hl
  refine lv_iconst (v := 0) hx hb dX4_leastHalves_0 (by decide) ?_
  refine lv_istore_n (lv' := [(2, .int (0 : Int32)), (0, .ref (mo G)), (1, .int x1)]) hx hb dX4_leastHalves_1 rfl hl (by decide) rfl (fun ls hl => ?_)
  refine k_bind hf (fun b2 hb2 hf => ?_)
  refine wLX4_leastHalves_2 S hb2 ?_ _ _ _ hR hS (lv_sub (l' := [(0, .ref (mo G)), (1, .int x1), (2, .int (0 : Int32))]) hl [1, 2, 0] rfl)
  · intro b eb; subst eb; intro H locs ls hR hS hl
    refine lv_iconst (v := 0) hx hb dX4_leastHalves_21 (by decide) ?_
    refine lv_istore_n (lv' := [(2, .int (0 : Int32)), (0, .ref (mo G)), (1, .int x1)]) hx hb dX4_leastHalves_22 rfl hl (by decide) rfl (fun ls hl => ?_)
    refine lv_iconst (v := 0) hx hb dX4_leastHalves_23 (by decide) ?_
    refine lv_istore_n (lv' := [(3, .int (0 : Int32)), (2, .int (0 : Int32)), (0, .ref (mo G)), (1, .int x1)]) hx hb dX4_leastHalves_24 rfl hl (by decide) rfl (fun ls hl => ?_)
    refine k_bind hf (fun b8 hb8 hf => ?_)
    refine wLX4_leastHalves_25 S hb8 ?_ _ _ _ hR hS (lv_sub (l' := [(0, .ref (mo G)), (1, .int x1), (2, .int (0 : Int32)), (3, .int (0 : Int32))]) hl [2, 3, 1, 0] rfl)
    · intro b eb; subst eb; intro H locs ls hR hS hl
      refine lv_iload_n hx hb dX4_leastHalves_69 rfl (lv_at hl 1 rfl) ?_
      obtain rfl := Option.some.inj hf
      exact m_iret S hR hS rfl dX4_leastHalves_70

noncomputable def LX4_mayGet_6 (y1 : Int32) (y2 : Int32) (y3 : Int32) (σ : mS) (q : Int32 × Int32) : Option ((Int32 × Int32) ⊕ (Int32)) :=
  if y1 ≤ q.2 then some (Sum.inr q.1) else if q.1 = (0 : Int32) then some (Sum.inl ((0 : Int32), q.2 + (1 : Int32))) else (mald σ 4 y1).bind (fun v1 => if (fX4_has (v1 &&& y3) q.2) = (0 : Int32) then some (Sum.inl ((1 : Int32), q.2 + (1 : Int32))) else (mald σ 7 q.2).bind (fun v2 => if (v2 + y2) < (2 : Int32) then some (Sum.inl ((0 : Int32), q.2 + (1 : Int32))) else some (Sum.inl ((1 : Int32), q.2 + (1 : Int32)))))
noncomputable def fX4_mayGet (x1 : Int32) (x2 : Int32) (x3 : Int32) (σ : mS) : Option Int32 :=
  (lpw (LX4_mayGet_6 x1 x2 x3 σ) ((1 : Int32), (0 : Int32))).bind (fun b3 => some (b3 &&& 1))
theorem wi_X4_mayGet : wInfV yX4_mayGet cX4_mayGet 6 (Option.some Jvm.ClassFile.FieldType.boolean) 3 := ⟨q2812, qs73, q116, q2813, (by decide +kernel), (by decide +kernel), (by decide +kernel)⟩
set_option maxHeartbeats 4000000 in
set_option maxRecDepth 100000 in
theorem wbLX4_mayGet_6 {l : Launch} {G : mG} {p : Program} {e : Env} {s : State} {m : MethodId} {args : Array Value} {below : List Frame} {meth : Method} {c : Code} {Q : State → Prop} {y1 : Int32} {y2 : Int32} {y3 : Int32} {σ : mS} {q : Int32 × Int32} {res : (Int32 × Int32) ⊕ (Int32)} (S : mSt G p m c cX4_mayGet 6 s args meth (Option.some Jvm.ClassFile.FieldType.boolean)) (hf : LX4_mayGet_6 y1 y2 y3 σ q = some res) (hK : ∀ q, res = Sum.inl q → (∀ (H : Heap) (locs : List Loc) (ls : Array Slot), mR G σ H → va_S (mA G) s.heap H locs → lv_has ls 6 [(0, .ref (mo G)), (1, .int y1), (2, .int y2), (3, .int y3), (4, .int q.1), (5, .int q.2)] → W p l e (mRm 1 21) s m args below meth c H locs 0 0 Q (F0 m 6 ls []))) (hE59 : ∀ b, res = Sum.inr b → (∀ (H : Heap) (locs : List Loc) (ls : Array Slot), mR G σ H → va_S (mA G) s.heap H locs → lv_has ls 6 [(0, .ref (mo G)), (4, .int b)] → W p l e (mRm 1 21) s m args below meth c H locs 0 0 Q (F0 m 59 ls []))) : (∀ (H : Heap) (locs : List Loc) (ls : Array Slot), mR G σ H → va_S (mA G) s.heap H locs → lv_has ls 6 [(0, .ref (mo G)), (1, .int y1), (2, .int y2), (3, .int y3), (4, .int q.1), (5, .int q.2)] → W p l e (mRm 1 21) s m args below meth c H locs 0 0 Q (F0 m 6 ls [])) := by
  replace hf : (if y1 ≤ q.2 then some (Sum.inr q.1) else if q.1 = (0 : Int32) then some (Sum.inl ((0 : Int32), q.2 + (1 : Int32))) else (mald σ 4 y1).bind (fun v1 => if (fX4_has (v1 &&& y3) q.2) = (0 : Int32) then some (Sum.inl ((1 : Int32), q.2 + (1 : Int32))) else (mald σ 7 q.2).bind (fun v2 => if (v2 + y2) < (2 : Int32) then some (Sum.inl ((0 : Int32), q.2 + (1 : Int32))) else some (Sum.inl ((1 : Int32), q.2 + (1 : Int32)))))) = some res := hf
  obtain ⟨hx, hb, hml, hown, hts⟩ := S.1.1
  intro H locs ls hR hS hl
  refine lv_iload hx hb dX4_mayGet_6 (lv_at hl 5 rfl) ?_
  refine lv_iload_n hx hb dX4_mayGet_8 rfl (lv_at hl 1 rfl) ?_
  refine lv_icmp_ge (tgt := 59) hx hb dX4_mayGet_9 (by decide) (fun c_9 => ?_) (fun c_9 => ?_)
  · replace hf := o_t hf c_9
    exact hE59 _ (Option.some.inj hf).symm _ _ _ hR hS (lv_sub (l' := [(0, .ref (mo G)), (4, .int q.1)]) hl [0, 4] rfl)
  · replace hf := o_f hf c_9
    refine lv_iload hx hb dX4_mayGet_12 (lv_at hl 4 rfl) ?_
    refine lv_if_eq (tgt := 50) hx hb dX4_mayGet_14 (by decide) (fun c_14 => ?_) (fun c_14 => ?_)
    · replace hf := o_t hf c_14
      refine lv_iconst (v := 0) hx hb dX4_mayGet_50 (by decide) ?_
      refine lv_istore (lv' := [(4, .int (0 : Int32)), (0, .ref (mo G)), (1, .int y1), (2, .int y2), (3, .int y3), (5, .int q.2)]) hx hb dX4_mayGet_51 hl (by decide) rfl (fun ls hl => ?_)
      refine lv_iinc (lv' := [(5, .int (q.2 + (1 : Int32))), (4, .int (0 : Int32)), (0, .ref (mo G)), (1, .int y1), (2, .int y2), (3, .int y3)]) hx hb dX4_mayGet_53 hl (k := 5) rfl (m_inc (by decide)) (by decide) rfl (fun ls hl => ?_)
      refine lv_goto (tgt := 6) hx hb dX4_mayGet_56 (by decide) ?_
      exact hK _ (Option.some.inj hf).symm _ _ _ hR hS (lv_sub (l' := [(0, .ref (mo G)), (1, .int y1), (2, .int y2), (3, .int y3), (4, .int (0 : Int32)), (5, .int (q.2 + (1 : Int32)))]) hl [2, 3, 4, 5, 1, 0] rfl)
    · replace hf := o_f hf c_14
      refine lv_aload_n hx hb dX4_mayGet_17 rfl (lv_at hl 0 rfl) ?_
      refine m_geta (k := 4) S hR (by decide) (by decide) q2530 dX4_mayGet_18 ?_
      refine lv_iload_n hx hb dX4_mayGet_21 rfl (lv_at hl 1 rfl) ?_
      refine k_bind hf (fun v1 hv1 hf => ?_)
      refine m_iald S hR hv1 dX4_mayGet_22 ?_
      refine lv_iload_n hx hb dX4_mayGet_23 rfl (lv_at hl 3 rfl) ?_
      refine lv_iand hx hb dX4_mayGet_24 ?_
      refine lv_iload hx hb dX4_mayGet_25 (lv_at hl 5 rfl) ?_
      refine s_call (As := [.int (v1 &&& y3), .int q.2]) (rest := []) S.1.1 (met_X4_has rfl) wi_X4_has q2750 ⟨rfl, rfl⟩ ⟨Nat.le_of_ble_eq_true rfl, Nat.le_of_ble_eq_true rfl⟩ rfl hl.1 rfl (Nat.le_of_ble_eq_true rfl) dX4_mayGet_27 ⟨Nat.zero_le _, Nat.zero_le _⟩ ?_
      refine lv_if_eq (tgt := 46) hx hb dX4_mayGet_30 (by decide) (fun c_30 => ?_) (fun c_30 => ?_)
      · replace hf := o_t hf c_30
        refine lv_iconst (v := 1) hx hb dX4_mayGet_46 (by decide) ?_
        refine lv_goto (tgt := 51) hx hb dX4_mayGet_47 (by decide) ?_
        refine lv_istore (lv' := [(4, .int (1 : Int32)), (0, .ref (mo G)), (1, .int y1), (2, .int y2), (3, .int y3), (5, .int q.2)]) hx hb dX4_mayGet_51 hl (by decide) rfl (fun ls hl => ?_)
        refine lv_iinc (lv' := [(5, .int (q.2 + (1 : Int32))), (4, .int (1 : Int32)), (0, .ref (mo G)), (1, .int y1), (2, .int y2), (3, .int y3)]) hx hb dX4_mayGet_53 hl (k := 5) rfl (m_inc (by decide)) (by decide) rfl (fun ls hl => ?_)
        refine lv_goto (tgt := 6) hx hb dX4_mayGet_56 (by decide) ?_
        exact hK _ (Option.some.inj hf).symm _ _ _ hR hS (lv_sub (l' := [(0, .ref (mo G)), (1, .int y1), (2, .int y2), (3, .int y3), (4, .int (1 : Int32)), (5, .int (q.2 + (1 : Int32)))]) hl [2, 3, 4, 5, 1, 0] rfl)
      · replace hf := o_f hf c_30
        refine lv_aload_n hx hb dX4_mayGet_33 rfl (lv_at hl 0 rfl) ?_
        refine m_geta (k := 7) S hR (by decide) (by decide) q2533 dX4_mayGet_34 ?_
        refine lv_iload hx hb dX4_mayGet_37 (lv_at hl 5 rfl) ?_
        refine k_bind hf (fun v2 hv2 hf => ?_)
        refine m_iald S hR hv2 dX4_mayGet_39 ?_
        refine lv_iload_n hx hb dX4_mayGet_40 rfl (lv_at hl 2 rfl) ?_
        refine lv_iadd hx hb dX4_mayGet_41 ?_
        refine lv_iconst (v := 2) hx hb dX4_mayGet_42 (by decide) ?_
        refine lv_icmp_lt (tgt := 50) hx hb dX4_mayGet_43 (by decide) (fun c_43 => ?_) (fun c_43 => ?_)
        · replace hf := o_t hf c_43
          refine lv_iconst (v := 0) hx hb dX4_mayGet_50 (by decide) ?_
          refine lv_istore (lv' := [(4, .int (0 : Int32)), (0, .ref (mo G)), (1, .int y1), (2, .int y2), (3, .int y3), (5, .int q.2)]) hx hb dX4_mayGet_51 hl (by decide) rfl (fun ls hl => ?_)
          refine lv_iinc (lv' := [(5, .int (q.2 + (1 : Int32))), (4, .int (0 : Int32)), (0, .ref (mo G)), (1, .int y1), (2, .int y2), (3, .int y3)]) hx hb dX4_mayGet_53 hl (k := 5) rfl (m_inc (by decide)) (by decide) rfl (fun ls hl => ?_)
          refine lv_goto (tgt := 6) hx hb dX4_mayGet_56 (by decide) ?_
          exact hK _ (Option.some.inj hf).symm _ _ _ hR hS (lv_sub (l' := [(0, .ref (mo G)), (1, .int y1), (2, .int y2), (3, .int y3), (4, .int (0 : Int32)), (5, .int (q.2 + (1 : Int32)))]) hl [2, 3, 4, 5, 1, 0] rfl)
        · replace hf := o_f hf c_43
          refine lv_iconst (v := 1) hx hb dX4_mayGet_46 (by decide) ?_
          refine lv_goto (tgt := 51) hx hb dX4_mayGet_47 (by decide) ?_
          refine lv_istore (lv' := [(4, .int (1 : Int32)), (0, .ref (mo G)), (1, .int y1), (2, .int y2), (3, .int y3), (5, .int q.2)]) hx hb dX4_mayGet_51 hl (by decide) rfl (fun ls hl => ?_)
          refine lv_iinc (lv' := [(5, .int (q.2 + (1 : Int32))), (4, .int (1 : Int32)), (0, .ref (mo G)), (1, .int y1), (2, .int y2), (3, .int y3)]) hx hb dX4_mayGet_53 hl (k := 5) rfl (m_inc (by decide)) (by decide) rfl (fun ls hl => ?_)
          refine lv_goto (tgt := 6) hx hb dX4_mayGet_56 (by decide) ?_
          exact hK _ (Option.some.inj hf).symm _ _ _ hR hS (lv_sub (l' := [(0, .ref (mo G)), (1, .int y1), (2, .int y2), (3, .int y3), (4, .int (1 : Int32)), (5, .int (q.2 + (1 : Int32)))]) hl [2, 3, 4, 5, 1, 0] rfl)
set_option maxHeartbeats 4000000 in
set_option maxRecDepth 100000 in
theorem wLX4_mayGet_6 {l : Launch} {G : mG} {p : Program} {e : Env} {s : State} {m : MethodId} {args : Array Value} {below : List Frame} {meth : Method} {c : Code} {Q : State → Prop} {y1 : Int32} {y2 : Int32} {y3 : Int32} {σ : mS} {q : Int32 × Int32} {res : Int32} (S : mSt G p m c cX4_mayGet 6 s args meth (Option.some Jvm.ClassFile.FieldType.boolean)) (h : lpw (LX4_mayGet_6 y1 y2 y3 σ) q = some res) (hE59 : ∀ b, res = b → (∀ (H : Heap) (locs : List Loc) (ls : Array Slot), mR G σ H → va_S (mA G) s.heap H locs → lv_has ls 6 [(0, .ref (mo G)), (4, .int b)] → W p l e (mRm 1 21) s m args below meth c H locs 0 0 Q (F0 m 59 ls []))) : (∀ (H : Heap) (locs : List Loc) (ls : Array Slot), mR G σ H → va_S (mA G) s.heap H locs → lv_has ls 6 [(0, .ref (mo G)), (1, .int y1), (2, .int y2), (3, .int y3), (4, .int q.1), (5, .int q.2)] → W p l e (mRm 1 21) s m args below meth c H locs 0 0 Q (F0 m 6 ls [])) :=
  lpw_go _ (fun q => (∀ (H : Heap) (locs : List Loc) (ls : Array Slot), mR G σ H → va_S (mA G) s.heap H locs → lv_has ls 6 [(0, .ref (mo G)), (1, .int y1), (2, .int y2), (3, .int y3), (4, .int q.1), (5, .int q.2)] → W p l e (mRm 1 21) s m args below meth c H locs 0 0 Q (F0 m 6 ls []))) (fun b0 => (∀ b, b0 = b → (∀ (H : Heap) (locs : List Loc) (ls : Array Slot), mR G σ H → va_S (mA G) s.heap H locs → lv_has ls 6 [(0, .ref (mo G)), (4, .int b)] → W p l e (mRm 1 21) s m args below meth c H locs 0 0 Q (F0 m 59 ls [])))) (fun q x hf hK hX => wbLX4_mayGet_6 S hf hK (fun b eb => (hX _ eb) b rfl)) q res h hE59
set_option maxHeartbeats 4000000 in
set_option maxRecDepth 100000 in
theorem met_X4_mayGet {l : Launch} {G : mG} {x1 : Int32} {x2 : Int32} {x3 : Int32} {σ : mS} {res : Int32} (hf : fX4_mayGet x1 x2 x3 σ = some res) : mMet l yX4_mayGet cX4_mayGet 6 (Option.some Jvm.ClassFile.FieldType.boolean) (mRm 1 21) G [.ref (mo G), .int x1, .int x2, .int x3] σ (some (.int res)) σ := by
  replace hf : ((lpw (LX4_mayGet_6 x1 x2 x3 σ) ((1 : Int32), (0 : Int32))).bind (fun b3 => some (b3 &&& 1))) = some res := hf
  refine m_start (by decide) rfl (Nat.le_of_ble_eq_true rfl) ?_
  intro p e s m args below meth c S hR hS ls hl
  obtain ⟨hx, hb, hml, hown, hts⟩ := S.1.1
  have hl : lv_has ls 6 [(0, .ref (mo G)), (1, .int x1), (2, .int x2), (3, .int x3)] := hl
  refine lv_iconst (v := 1) hx hb dX4_mayGet_0 (by decide) ?_
  refine lv_istore (lv' := [(4, .int (1 : Int32)), (0, .ref (mo G)), (1, .int x1), (2, .int x2), (3, .int x3)]) hx hb dX4_mayGet_1 hl (by decide) rfl (fun ls hl => ?_)
  refine lv_iconst (v := 0) hx hb dX4_mayGet_3 (by decide) ?_
  refine lv_istore (lv' := [(5, .int (0 : Int32)), (4, .int (1 : Int32)), (0, .ref (mo G)), (1, .int x1), (2, .int x2), (3, .int x3)]) hx hb dX4_mayGet_4 hl (by decide) rfl (fun ls hl => ?_)
  refine k_bind hf (fun b3 hb3 hf => ?_)
  refine wLX4_mayGet_6 S hb3 ?_ _ _ _ hR hS (lv_sub (l' := [(0, .ref (mo G)), (1, .int x1), (2, .int x2), (3, .int x3), (4, .int (1 : Int32)), (5, .int (0 : Int32))]) hl [2, 3, 4, 5, 1, 0] rfl)
  · intro b eb; subst eb; intro H locs ls hR hS hl
    refine lv_iload hx hb dX4_mayGet_59 (lv_at hl 1 rfl) ?_
    obtain rfl := Option.some.inj hf
    exact m_iret S hR hS rfl dX4_mayGet_61

noncomputable def JX4_gives_87 (rec : Int32 → Int32 → Int32 → Int32 → Int32 → mS → Option (Int32 × mS)) (y1 : Int32) (y2 : Int32) (y3 : Int32) (y4 : Int32) (y5 : Int32) (y6 : Int32) (y7 : Int32) (y8 : Int32) (σ : mS) : Option ((Int32 × mS) ⊕ ((mS) ⊕ (mS))) :=
  if y2 < y8 then some (Sum.inl (y7 + (1 : Int32), σ)) else (fX4_mayGet y1 y8 y3 σ).bind (fun v2 => if v2 = (0 : Int32) then some (Sum.inl (y7 + (1 : Int32), σ)) else (fX4_leastHalves y6 σ).bind (fun e3 => if e3.1 ≤ (y2 - y8) then (mast e3.2 7 y1 y8).bind (fun σ4 => (rec (y1 + (1 : Int32)) (y2 - y8) y3 y4 y5 σ4).bind (fun e5 => if e5.1 = (0 : Int32) then some (Sum.inl (y7 + (1 : Int32), e5.2)) else some (Sum.inr (Sum.inl e5.2)))) else some (Sum.inl (y7 + (1 : Int32), e3.2))))
noncomputable def JX4_gives_72 (rec : Int32 → Int32 → Int32 → Int32 → Int32 → mS → Option (Int32 × mS)) (y1 : Int32) (y2 : Int32) (y3 : Int32) (y4 : Int32) (y5 : Int32) (y6 : Int32) (y7 : Int32) (z0 : Int32) (σ : mS) : Option ((Int32 × mS) ⊕ ((mS) ⊕ (mS))) :=
  if y1 = y4 then if z0 = y5 then JX4_gives_87 rec y1 y2 y3 y4 y5 y6 y7 z0 σ else some (Sum.inl (y7 + (1 : Int32), σ)) else JX4_gives_87 rec y1 y2 y3 y4 y5 y6 y7 z0 σ
noncomputable def LX4_gives_53 (rec : Int32 → Int32 → Int32 → Int32 → Int32 → mS → Option (Int32 × mS)) (y1 : Int32) (y2 : Int32) (y3 : Int32) (y4 : Int32) (y5 : Int32) (y6 : Int32) (q : Int32 × mS) : Option ((Int32 × mS) ⊕ ((mS) ⊕ (mS))) :=
  if (3 : Int32) ≤ q.1 then some (Sum.inr (Sum.inr q.2)) else if q.1 = (0 : Int32) then JX4_gives_72 rec y1 y2 y3 y4 y5 y6 q.1 (0 : Int32) q.2 else JX4_gives_72 rec y1 y2 y3 y4 y5 y6 q.1 ((3 : Int32) - q.1) q.2
noncomputable def BX4_gives (rec : Int32 → Int32 → Int32 → Int32 → Int32 → mS → Option (Int32 × mS)) (x1 : Int32) (x2 : Int32) (x3 : Int32) (x4 : Int32) (x5 : Int32) (σ : mS) : Option (Int32 × mS) :=
  if x1 = (σ.1 0) then some ((1 : Int32), σ) else (some (x3 &&& (((ish (2 : Int32) x1) - (1 : Int32)) ^^^ (-1 : Int32)))).bind (fun v1 => if (fX4_has x3 x1) = (0 : Int32) then (mast σ 7 x1 (-1 : Int32)).bind (fun σ9 => (rec (x1 + (1 : Int32)) x2 x3 x4 x5 σ9).bind (fun e10 => some ((e10.1 &&& 1), e10.2))) else (lpw (LX4_gives_53 rec x1 x2 x3 x4 x5 v1) ((0 : Int32), σ)).bind ((fun e => Sum.elim (fun b7 => some ((1 : Int32), b7)) (fun b8 => some ((0 : Int32), b8)) e)))
noncomputable def fX4_gives : Nat → Int32 → Int32 → Int32 → Int32 → Int32 → mS → Option (Int32 × mS)
  | 0 => fun _ _ _ _ _ _ => none
  | d + 1 => BX4_gives (fX4_gives d)
theorem wi_X4_gives : wInfV yX4_gives cX4_gives 9 (Option.some Jvm.ClassFile.FieldType.boolean) 5 := ⟨q2808, qs72, q116, q2809, (by decide +kernel), (by decide +kernel), (by decide +kernel)⟩
set_option maxHeartbeats 4000000 in
set_option maxRecDepth 100000 in
theorem wJX4_gives_87 {l : Launch} {G : mG} {p : Program} {e : Env} {s : State} {m : MethodId} {args : Array Value} {below : List Frame} {meth : Method} {c : Code} {d : Nat} {rec : Int32 → Int32 → Int32 → Int32 → Int32 → mS → Option (Int32 × mS)} {Q : State → Prop} {y1 : Int32} {y2 : Int32} {y3 : Int32} {y4 : Int32} {y5 : Int32} {y6 : Int32} {y7 : Int32} {y8 : Int32} {σ : mS} {res : (Int32 × mS) ⊕ ((mS) ⊕ (mS))} (S : mSt G p m c cX4_gives 9 s args meth (Option.some Jvm.ClassFile.FieldType.boolean)) (hrec : ∀ {x1 : Int32} {x2 : Int32} {x3 : Int32} {x4 : Int32} {x5 : Int32} {σ : mS} {res : Int32 × mS}, rec x1 x2 x3 x4 x5 σ = some res → mMet l yX4_gives cX4_gives 9 (Option.some Jvm.ClassFile.FieldType.boolean) (mRm (d + 19) (28 * (d) + 435)) G [.ref (mo G), .int x1, .int x2, .int x3, .int x4, .int x5] σ (some (.int res.1)) res.2) (hf : JX4_gives_87 rec y1 y2 y3 y4 y5 y6 y7 y8 σ = some res) (hK : ∀ q, res = Sum.inl q → (∀ (H : Heap) (locs : List Loc) (ls : Array Slot), mR G q.2 H → va_S (mA G) s.heap H locs → lv_has ls 9 [(0, .ref (mo G)), (1, .int y1), (2, .int y2), (3, .int y3), (4, .int y4), (5, .int y5), (6, .int y6), (7, .int q.1)] → W p l e (mRm (d + 1 + 19) (28 * (d + 1) + 435)) s m args below meth c H locs 0 0 Q (F0 m 53 ls []))) (hE147 : ∀ b, res = Sum.inr (Sum.inl b) → (∀ (H : Heap) (locs : List Loc) (ls : Array Slot), mR G b H → va_S (mA G) s.heap H locs → lv_has ls 9 [(0, .ref (mo G))] → W p l e (mRm (d + 1 + 19) (28 * (d + 1) + 435)) s m args below meth c H locs 0 0 Q (F0 m 147 ls []))) (hE155 : ∀ b, res = Sum.inr (Sum.inr b) → (∀ (H : Heap) (locs : List Loc) (ls : Array Slot), mR G b H → va_S (mA G) s.heap H locs → lv_has ls 9 [(0, .ref (mo G))] → W p l e (mRm (d + 1 + 19) (28 * (d + 1) + 435)) s m args below meth c H locs 0 0 Q (F0 m 155 ls []))) : ∀ (H : Heap) (locs : List Loc) (ls : Array Slot), mR G σ H → va_S (mA G) s.heap H locs → lv_has ls 9 [(0, .ref (mo G)), (1, .int y1), (2, .int y2), (3, .int y3), (4, .int y4), (5, .int y5), (6, .int y6), (7, .int y7), (8, .int y8)] → W p l e (mRm (d + 1 + 19) (28 * (d + 1) + 435)) s m args below meth c H locs 0 0 Q (F0 m 87 ls []) := by
  replace hf : (if y2 < y8 then some (Sum.inl (y7 + (1 : Int32), σ)) else (fX4_mayGet y1 y8 y3 σ).bind (fun v2 => if v2 = (0 : Int32) then some (Sum.inl (y7 + (1 : Int32), σ)) else (fX4_leastHalves y6 σ).bind (fun e3 => if e3.1 ≤ (y2 - y8) then (mast e3.2 7 y1 y8).bind (fun σ4 => (rec (y1 + (1 : Int32)) (y2 - y8) y3 y4 y5 σ4).bind (fun e5 => if e5.1 = (0 : Int32) then some (Sum.inl (y7 + (1 : Int32), e5.2)) else some (Sum.inr (Sum.inl e5.2)))) else some (Sum.inl (y7 + (1 : Int32), e3.2))))) = some res := hf
  obtain ⟨hx, hb, hml, hown, hts⟩ := S.1.1
  intro H locs ls hR hS hl
  refine lv_iload hx hb dX4_gives_87 (lv_at hl 8 rfl) ?_
  refine lv_iload_n hx hb dX4_gives_89 rfl (lv_at hl 2 rfl) ?_
  refine lv_icmp_gt (tgt := 149) hx hb dX4_gives_90 (by decide) (fun c_90 => ?_) (fun c_90 => ?_)
  · replace hf := o_t hf c_90
    refine lv_iinc (lv' := [(7, .int (y7 + (1 : Int32))), (0, .ref (mo G)), (1, .int y1), (2, .int y2), (3, .int y3), (4, .int y4), (5, .int y5), (6, .int y6), (8, .int y8)]) hx hb dX4_gives_149 hl (k := 7) rfl (m_inc (by decide)) (by decide) rfl (fun ls hl => ?_)
    refine lv_goto (tgt := 53) hx hb dX4_gives_152 (by decide) ?_
    exact hK _ (Option.some.inj hf).symm _ _ _ hR hS (lv_sub (l' := [(0, .ref (mo G)), (1, .int y1), (2, .int y2), (3, .int y3), (4, .int y4), (5, .int y5), (6, .int y6), (7, .int (y7 + (1 : Int32)))]) hl [1, 2, 3, 4, 5, 6, 7, 0] rfl)
  · replace hf := o_f hf c_90
    refine lv_aload_n hx hb dX4_gives_93 rfl (lv_at hl 0 rfl) ?_
    refine lv_iload_n hx hb dX4_gives_94 rfl (lv_at hl 1 rfl) ?_
    refine lv_iload hx hb dX4_gives_95 (lv_at hl 8 rfl) ?_
    refine lv_iload_n hx hb dX4_gives_97 rfl (lv_at hl 3 rfl) ?_
    refine k_bind hf (fun v2 hv2 hf => ?_)
    refine m_call (As := [.int y1, .int y8, .int y3]) (rest := []) S hR hS (met_X4_mayGet hv2) wi_X4_mayGet rfl q2810 ⟨rfl, rfl⟩ ⟨by simp only [mRm]; omega, by simp only [mRm]; omega⟩ rfl hl.1 rfl (Nat.le_of_ble_eq_true rfl) dX4_gives_98 (fun H locs hR hS => ?_)
    refine lv_if_eq (tgt := 149) hx hb dX4_gives_101 (by decide) (fun c_101 => ?_) (fun c_101 => ?_)
    · replace hf := o_t hf c_101
      refine lv_iinc (lv' := [(7, .int (y7 + (1 : Int32))), (0, .ref (mo G)), (1, .int y1), (2, .int y2), (3, .int y3), (4, .int y4), (5, .int y5), (6, .int y6), (8, .int y8)]) hx hb dX4_gives_149 hl (k := 7) rfl (m_inc (by decide)) (by decide) rfl (fun ls hl => ?_)
      refine lv_goto (tgt := 53) hx hb dX4_gives_152 (by decide) ?_
      exact hK _ (Option.some.inj hf).symm _ _ _ hR hS (lv_sub (l' := [(0, .ref (mo G)), (1, .int y1), (2, .int y2), (3, .int y3), (4, .int y4), (5, .int y5), (6, .int y6), (7, .int (y7 + (1 : Int32)))]) hl [1, 2, 3, 4, 5, 6, 7, 0] rfl)
    · replace hf := o_f hf c_101
      refine lv_aload_n hx hb dX4_gives_104 rfl (lv_at hl 0 rfl) ?_
      refine lv_iload hx hb dX4_gives_105 (lv_at hl 6 rfl) ?_
      refine k_bind hf (fun e3 he3 hf => ?_)
      refine m_call (As := [.int y6]) (rest := []) S hR hS (met_X4_leastHalves he3) wi_X4_leastHalves rfl q2798 ⟨rfl, rfl⟩ ⟨by simp only [mRm]; omega, by simp only [mRm]; omega⟩ rfl hl.1 rfl (Nat.le_of_ble_eq_true rfl) dX4_gives_107 (fun H locs hR hS => ?_)
      refine lv_iload_n hx hb dX4_gives_110 rfl (lv_at hl 2 rfl) ?_
      refine lv_iload hx hb dX4_gives_111 (lv_at hl 8 rfl) ?_
      refine lv_isub hx hb dX4_gives_113 ?_
      refine lv_icmp_le (tgt := 120) hx hb dX4_gives_114 (by decide) (fun c_114 => ?_) (fun c_114 => ?_)
      · replace hf := o_t hf c_114
        refine lv_aload_n hx hb dX4_gives_120 rfl (lv_at hl 0 rfl) ?_
        refine m_geta (k := 7) S hR (by decide) (by decide) q2533 dX4_gives_121 ?_
        refine lv_iload_n hx hb dX4_gives_124 rfl (lv_at hl 1 rfl) ?_
        refine lv_iload hx hb dX4_gives_125 (lv_at hl 8 rfl) ?_
        refine k_bind hf (fun σ4 hσ4 hf => ?_)
        refine m_iast S hR hS hσ4 dX4_gives_127 (fun H locs hR hS => ?_)
        refine lv_aload_n hx hb dX4_gives_128 rfl (lv_at hl 0 rfl) ?_
        refine lv_iload_n hx hb dX4_gives_129 rfl (lv_at hl 1 rfl) ?_
        refine lv_iconst (v := 1) hx hb dX4_gives_130 (by decide) ?_
        refine lv_iadd hx hb dX4_gives_131 ?_
        refine lv_iload_n hx hb dX4_gives_132 rfl (lv_at hl 2 rfl) ?_
        refine lv_iload hx hb dX4_gives_133 (lv_at hl 8 rfl) ?_
        refine lv_isub hx hb dX4_gives_135 ?_
        refine lv_iload_n hx hb dX4_gives_136 rfl (lv_at hl 3 rfl) ?_
        refine lv_iload hx hb dX4_gives_137 (lv_at hl 4 rfl) ?_
        refine lv_iload hx hb dX4_gives_139 (lv_at hl 5 rfl) ?_
        refine k_bind hf (fun e5 he5 hf => ?_)
        refine m_call (As := [.int (y1 + (1 : Int32)), .int (y2 - y8), .int y3, .int y4, .int y5]) (rest := []) S hR hS (hrec he5) wi_X4_gives rfl q2806 ⟨rfl, rfl⟩ ⟨by simp only [mRm]; omega, by simp only [mRm]; omega⟩ rfl hl.1 rfl (Nat.le_of_ble_eq_true rfl) dX4_gives_141 (fun H locs hR hS => ?_)
        refine lv_if_eq (tgt := 149) hx hb dX4_gives_144 (by decide) (fun c_144 => ?_) (fun c_144 => ?_)
        · replace hf := o_t hf c_144
          refine lv_iinc (lv' := [(7, .int (y7 + (1 : Int32))), (0, .ref (mo G)), (1, .int y1), (2, .int y2), (3, .int y3), (4, .int y4), (5, .int y5), (6, .int y6), (8, .int y8)]) hx hb dX4_gives_149 hl (k := 7) rfl (m_inc (by decide)) (by decide) rfl (fun ls hl => ?_)
          refine lv_goto (tgt := 53) hx hb dX4_gives_152 (by decide) ?_
          exact hK _ (Option.some.inj hf).symm _ _ _ hR hS (lv_sub (l' := [(0, .ref (mo G)), (1, .int y1), (2, .int y2), (3, .int y3), (4, .int y4), (5, .int y5), (6, .int y6), (7, .int (y7 + (1 : Int32)))]) hl [1, 2, 3, 4, 5, 6, 7, 0] rfl)
        · replace hf := o_f hf c_144
          exact hE147 _ (Option.some.inj hf).symm _ _ _ hR hS (lv_sub (l' := [(0, .ref (mo G))]) hl [0] rfl)
      · replace hf := o_f hf c_114
        refine lv_goto (tgt := 149) hx hb dX4_gives_117 (by decide) ?_
        refine lv_iinc (lv' := [(7, .int (y7 + (1 : Int32))), (0, .ref (mo G)), (1, .int y1), (2, .int y2), (3, .int y3), (4, .int y4), (5, .int y5), (6, .int y6), (8, .int y8)]) hx hb dX4_gives_149 hl (k := 7) rfl (m_inc (by decide)) (by decide) rfl (fun ls hl => ?_)
        refine lv_goto (tgt := 53) hx hb dX4_gives_152 (by decide) ?_
        exact hK _ (Option.some.inj hf).symm _ _ _ hR hS (lv_sub (l' := [(0, .ref (mo G)), (1, .int y1), (2, .int y2), (3, .int y3), (4, .int y4), (5, .int y5), (6, .int y6), (7, .int (y7 + (1 : Int32)))]) hl [1, 2, 3, 4, 5, 6, 7, 0] rfl)
set_option maxHeartbeats 4000000 in
set_option maxRecDepth 100000 in
theorem wJX4_gives_72 {l : Launch} {G : mG} {p : Program} {e : Env} {s : State} {m : MethodId} {args : Array Value} {below : List Frame} {meth : Method} {c : Code} {d : Nat} {rec : Int32 → Int32 → Int32 → Int32 → Int32 → mS → Option (Int32 × mS)} {Q : State → Prop} {y1 : Int32} {y2 : Int32} {y3 : Int32} {y4 : Int32} {y5 : Int32} {y6 : Int32} {y7 : Int32} {z0 : Int32} {σ : mS} {res : (Int32 × mS) ⊕ ((mS) ⊕ (mS))} (S : mSt G p m c cX4_gives 9 s args meth (Option.some Jvm.ClassFile.FieldType.boolean)) (hrec : ∀ {x1 : Int32} {x2 : Int32} {x3 : Int32} {x4 : Int32} {x5 : Int32} {σ : mS} {res : Int32 × mS}, rec x1 x2 x3 x4 x5 σ = some res → mMet l yX4_gives cX4_gives 9 (Option.some Jvm.ClassFile.FieldType.boolean) (mRm (d + 19) (28 * (d) + 435)) G [.ref (mo G), .int x1, .int x2, .int x3, .int x4, .int x5] σ (some (.int res.1)) res.2) (hf : JX4_gives_72 rec y1 y2 y3 y4 y5 y6 y7 z0 σ = some res) (hK : ∀ q, res = Sum.inl q → (∀ (H : Heap) (locs : List Loc) (ls : Array Slot), mR G q.2 H → va_S (mA G) s.heap H locs → lv_has ls 9 [(0, .ref (mo G)), (1, .int y1), (2, .int y2), (3, .int y3), (4, .int y4), (5, .int y5), (6, .int y6), (7, .int q.1)] → W p l e (mRm (d + 1 + 19) (28 * (d + 1) + 435)) s m args below meth c H locs 0 0 Q (F0 m 53 ls []))) (hE147 : ∀ b, res = Sum.inr (Sum.inl b) → (∀ (H : Heap) (locs : List Loc) (ls : Array Slot), mR G b H → va_S (mA G) s.heap H locs → lv_has ls 9 [(0, .ref (mo G))] → W p l e (mRm (d + 1 + 19) (28 * (d + 1) + 435)) s m args below meth c H locs 0 0 Q (F0 m 147 ls []))) (hE155 : ∀ b, res = Sum.inr (Sum.inr b) → (∀ (H : Heap) (locs : List Loc) (ls : Array Slot), mR G b H → va_S (mA G) s.heap H locs → lv_has ls 9 [(0, .ref (mo G))] → W p l e (mRm (d + 1 + 19) (28 * (d + 1) + 435)) s m args below meth c H locs 0 0 Q (F0 m 155 ls []))) : ∀ (H : Heap) (locs : List Loc) (ls : Array Slot), mR G σ H → va_S (mA G) s.heap H locs → lv_has ls 9 [(0, .ref (mo G)), (1, .int y1), (2, .int y2), (3, .int y3), (4, .int y4), (5, .int y5), (6, .int y6), (7, .int y7)] → W p l e (mRm (d + 1 + 19) (28 * (d + 1) + 435)) s m args below meth c H locs 0 0 Q (F0 m 72 ls [.int z0]) := by
  replace hf : (if y1 = y4 then if z0 = y5 then JX4_gives_87 rec y1 y2 y3 y4 y5 y6 y7 z0 σ else some (Sum.inl (y7 + (1 : Int32), σ)) else JX4_gives_87 rec y1 y2 y3 y4 y5 y6 y7 z0 σ) = some res := hf
  obtain ⟨hx, hb, hml, hown, hts⟩ := S.1.1
  intro H locs ls hR hS hl
  refine lv_istore (lv' := [(8, .int z0), (0, .ref (mo G)), (1, .int y1), (2, .int y2), (3, .int y3), (4, .int y4), (5, .int y5), (6, .int y6), (7, .int y7)]) hx hb dX4_gives_72 hl (by decide) rfl (fun ls hl => ?_)
  refine lv_iload_n hx hb dX4_gives_74 rfl (lv_at hl 2 rfl) ?_
  refine lv_iload hx hb dX4_gives_75 (lv_at hl 5 rfl) ?_
  refine lv_icmp_ne (tgt := 87) hx hb dX4_gives_77 (by decide) (fun c_77 => ?_) (fun c_77 => ?_)
  · replace hf := o_f hf c_77
    exact wJX4_gives_87 S hrec hf hK hE147 hE155 _ _ _ hR hS (lv_sub (l' := [(0, .ref (mo G)), (1, .int y1), (2, .int y2), (3, .int y3), (4, .int y4), (5, .int y5), (6, .int y6), (7, .int y7), (8, .int z0)]) hl [1, 2, 3, 4, 5, 6, 7, 8, 0] rfl)
  · replace hf := o_t hf c_77
    refine lv_iload hx hb dX4_gives_80 (lv_at hl 0 rfl) ?_
    refine lv_iload hx hb dX4_gives_82 (lv_at hl 6 rfl) ?_
    refine lv_icmp_ne (tgt := 149) hx hb dX4_gives_84 (by decide) (fun c_84 => ?_) (fun c_84 => ?_)
    · replace hf := o_f hf c_84
      refine lv_iinc (lv' := [(7, .int (y7 + (1 : Int32))), (8, .int z0), (0, .ref (mo G)), (1, .int y1), (2, .int y2), (3, .int y3), (4, .int y4), (5, .int y5), (6, .int y6)]) hx hb dX4_gives_149 hl (k := 8) rfl (m_inc (by decide)) (by decide) rfl (fun ls hl => ?_)
      refine lv_goto (tgt := 53) hx hb dX4_gives_152 (by decide) ?_
      exact hK _ (Option.some.inj hf).symm _ _ _ hR hS (lv_sub (l' := [(0, .ref (mo G)), (1, .int y1), (2, .int y2), (3, .int y3), (4, .int y4), (5, .int y5), (6, .int y6), (7, .int (y7 + (1 : Int32)))]) hl [2, 3, 4, 5, 6, 7, 8, 0] rfl)
    · replace hf := o_t hf c_84
      exact wJX4_gives_87 S hrec hf hK hE147 hE155 _ _ _ hR hS (lv_sub (l' := [(0, .ref (mo G)), (1, .int y1), (2, .int y2), (3, .int y3), (4, .int y4), (5, .int y5), (6, .int y6), (7, .int y7), (8, .int z0)]) hl [1, 2, 3, 4, 5, 6, 7, 8, 0] rfl)
set_option maxHeartbeats 4000000 in
set_option maxRecDepth 100000 in
theorem wbLX4_gives_53 {l : Launch} {G : mG} {p : Program} {e : Env} {s : State} {m : MethodId} {args : Array Value} {below : List Frame} {meth : Method} {c : Code} {d : Nat} {rec : Int32 → Int32 → Int32 → Int32 → Int32 → mS → Option (Int32 × mS)} {Q : State → Prop} {y1 : Int32} {y2 : Int32} {y3 : Int32} {y4 : Int32} {y5 : Int32} {y6 : Int32} {q : Int32 × mS} {res : (Int32 × mS) ⊕ ((mS) ⊕ (mS))} (S : mSt G p m c cX4_gives 9 s args meth (Option.some Jvm.ClassFile.FieldType.boolean)) (hrec : ∀ {x1 : Int32} {x2 : Int32} {x3 : Int32} {x4 : Int32} {x5 : Int32} {σ : mS} {res : Int32 × mS}, rec x1 x2 x3 x4 x5 σ = some res → mMet l yX4_gives cX4_gives 9 (Option.some Jvm.ClassFile.FieldType.boolean) (mRm (d + 19) (28 * (d) + 435)) G [.ref (mo G), .int x1, .int x2, .int x3, .int x4, .int x5] σ (some (.int res.1)) res.2) (hf : LX4_gives_53 rec y1 y2 y3 y4 y5 y6 q = some res) (hK : ∀ q, res = Sum.inl q → (∀ (H : Heap) (locs : List Loc) (ls : Array Slot), mR G q.2 H → va_S (mA G) s.heap H locs → lv_has ls 9 [(0, .ref (mo G)), (1, .int y1), (2, .int y2), (3, .int y3), (4, .int y4), (5, .int y5), (6, .int y6), (7, .int q.1)] → W p l e (mRm (d + 1 + 19) (28 * (d + 1) + 435)) s m args below meth c H locs 0 0 Q (F0 m 53 ls []))) (hE147 : ∀ b, res = Sum.inr (Sum.inl b) → (∀ (H : Heap) (locs : List Loc) (ls : Array Slot), mR G b H → va_S (mA G) s.heap H locs → lv_has ls 9 [(0, .ref (mo G))] → W p l e (mRm (d + 1 + 19) (28 * (d + 1) + 435)) s m args below meth c H locs 0 0 Q (F0 m 147 ls []))) (hE155 : ∀ b, res = Sum.inr (Sum.inr b) → (∀ (H : Heap) (locs : List Loc) (ls : Array Slot), mR G b H → va_S (mA G) s.heap H locs → lv_has ls 9 [(0, .ref (mo G))] → W p l e (mRm (d + 1 + 19) (28 * (d + 1) + 435)) s m args below meth c H locs 0 0 Q (F0 m 155 ls []))) : (∀ (H : Heap) (locs : List Loc) (ls : Array Slot), mR G q.2 H → va_S (mA G) s.heap H locs → lv_has ls 9 [(0, .ref (mo G)), (1, .int y1), (2, .int y2), (3, .int y3), (4, .int y4), (5, .int y5), (6, .int y6), (7, .int q.1)] → W p l e (mRm (d + 1 + 19) (28 * (d + 1) + 435)) s m args below meth c H locs 0 0 Q (F0 m 53 ls [])) := by
  replace hf : (if (3 : Int32) ≤ q.1 then some (Sum.inr (Sum.inr q.2)) else if q.1 = (0 : Int32) then JX4_gives_72 rec y1 y2 y3 y4 y5 y6 q.1 (0 : Int32) q.2 else JX4_gives_72 rec y1 y2 y3 y4 y5 y6 q.1 ((3 : Int32) - q.1) q.2) = some res := hf
  obtain ⟨hx, hb, hml, hown, hts⟩ := S.1.1
  intro H locs ls hR hS hl
  refine lv_iload hx hb dX4_gives_53 (lv_at hl 7 rfl) ?_
  refine lv_iconst (v := 3) hx hb dX4_gives_55 (by decide) ?_
  refine lv_icmp_ge (tgt := 155) hx hb dX4_gives_56 (by decide) (fun c_56 => ?_) (fun c_56 => ?_)
  · replace hf := o_t hf c_56
    exact hE155 _ (Option.some.inj hf).symm _ _ _ hR hS (lv_sub (l' := [(0, .ref (mo G))]) hl [0] rfl)
  · replace hf := o_f hf c_56
    refine lv_iload hx hb dX4_gives_59 (lv_at hl 7 rfl) ?_
    refine lv_if_ne (tgt := 68) hx hb dX4_gives_61 (by decide) (fun c_61 => ?_) (fun c_61 => ?_)
    · replace hf := o_f hf c_61
      refine lv_iconst (v := 3) hx hb dX4_gives_68 (by decide) ?_
      refine lv_iload hx hb dX4_gives_69 (lv_at hl 7 rfl) ?_
      refine lv_isub hx hb dX4_gives_71 ?_
      exact wJX4_gives_72 S hrec hf hK hE147 hE155 _ _ _ hR hS hl
    · replace hf := o_t hf c_61
      refine lv_iconst (v := 0) hx hb dX4_gives_64 (by decide) ?_
      refine lv_goto (tgt := 72) hx hb dX4_gives_65 (by decide) ?_
      exact wJX4_gives_72 S hrec hf hK hE147 hE155 _ _ _ hR hS hl
set_option maxHeartbeats 4000000 in
set_option maxRecDepth 100000 in
theorem wLX4_gives_53 {l : Launch} {G : mG} {p : Program} {e : Env} {s : State} {m : MethodId} {args : Array Value} {below : List Frame} {meth : Method} {c : Code} {d : Nat} {rec : Int32 → Int32 → Int32 → Int32 → Int32 → mS → Option (Int32 × mS)} {Q : State → Prop} {y1 : Int32} {y2 : Int32} {y3 : Int32} {y4 : Int32} {y5 : Int32} {y6 : Int32} {q : Int32 × mS} {res : (mS) ⊕ (mS)} (S : mSt G p m c cX4_gives 9 s args meth (Option.some Jvm.ClassFile.FieldType.boolean)) (hrec : ∀ {x1 : Int32} {x2 : Int32} {x3 : Int32} {x4 : Int32} {x5 : Int32} {σ : mS} {res : Int32 × mS}, rec x1 x2 x3 x4 x5 σ = some res → mMet l yX4_gives cX4_gives 9 (Option.some Jvm.ClassFile.FieldType.boolean) (mRm (d + 19) (28 * (d) + 435)) G [.ref (mo G), .int x1, .int x2, .int x3, .int x4, .int x5] σ (some (.int res.1)) res.2) (h : lpw (LX4_gives_53 rec y1 y2 y3 y4 y5 y6) q = some res) (hE147 : ∀ b, res = (Sum.inl b) → (∀ (H : Heap) (locs : List Loc) (ls : Array Slot), mR G b H → va_S (mA G) s.heap H locs → lv_has ls 9 [(0, .ref (mo G))] → W p l e (mRm (d + 1 + 19) (28 * (d + 1) + 435)) s m args below meth c H locs 0 0 Q (F0 m 147 ls []))) (hE155 : ∀ b, res = (Sum.inr b) → (∀ (H : Heap) (locs : List Loc) (ls : Array Slot), mR G b H → va_S (mA G) s.heap H locs → lv_has ls 9 [(0, .ref (mo G))] → W p l e (mRm (d + 1 + 19) (28 * (d + 1) + 435)) s m args below meth c H locs 0 0 Q (F0 m 155 ls []))) : (∀ (H : Heap) (locs : List Loc) (ls : Array Slot), mR G q.2 H → va_S (mA G) s.heap H locs → lv_has ls 9 [(0, .ref (mo G)), (1, .int y1), (2, .int y2), (3, .int y3), (4, .int y4), (5, .int y5), (6, .int y6), (7, .int q.1)] → W p l e (mRm (d + 1 + 19) (28 * (d + 1) + 435)) s m args below meth c H locs 0 0 Q (F0 m 53 ls [])) :=
  lpw_go _ (fun q => (∀ (H : Heap) (locs : List Loc) (ls : Array Slot), mR G q.2 H → va_S (mA G) s.heap H locs → lv_has ls 9 [(0, .ref (mo G)), (1, .int y1), (2, .int y2), (3, .int y3), (4, .int y4), (5, .int y5), (6, .int y6), (7, .int q.1)] → W p l e (mRm (d + 1 + 19) (28 * (d + 1) + 435)) s m args below meth c H locs 0 0 Q (F0 m 53 ls []))) (fun b0 => (∀ b, b0 = (Sum.inl b) → (∀ (H : Heap) (locs : List Loc) (ls : Array Slot), mR G b H → va_S (mA G) s.heap H locs → lv_has ls 9 [(0, .ref (mo G))] → W p l e (mRm (d + 1 + 19) (28 * (d + 1) + 435)) s m args below meth c H locs 0 0 Q (F0 m 147 ls []))) ∧ (∀ b, b0 = (Sum.inr b) → (∀ (H : Heap) (locs : List Loc) (ls : Array Slot), mR G b H → va_S (mA G) s.heap H locs → lv_has ls 9 [(0, .ref (mo G))] → W p l e (mRm (d + 1 + 19) (28 * (d + 1) + 435)) s m args below meth c H locs 0 0 Q (F0 m 155 ls [])))) (fun q x hf hK hX => wbLX4_gives_53 S hrec hf hK (fun b eb => (hX _ eb).1 b rfl) (fun b eb => (hX _ eb).2 b rfl)) q res h ⟨hE147, hE155⟩
set_option maxHeartbeats 4000000 in
set_option maxRecDepth 100000 in
theorem wBX4_gives {d : Nat} {rec : Int32 → Int32 → Int32 → Int32 → Int32 → mS → Option (Int32 × mS)} {l : Launch} {G : mG} {x1 : Int32} {x2 : Int32} {x3 : Int32} {x4 : Int32} {x5 : Int32} {σ : mS} {res : Int32 × mS} (hrec : ∀ {x1 : Int32} {x2 : Int32} {x3 : Int32} {x4 : Int32} {x5 : Int32} {σ : mS} {res : Int32 × mS}, rec x1 x2 x3 x4 x5 σ = some res → mMet l yX4_gives cX4_gives 9 (Option.some Jvm.ClassFile.FieldType.boolean) (mRm (d + 19) (28 * (d) + 435)) G [.ref (mo G), .int x1, .int x2, .int x3, .int x4, .int x5] σ (some (.int res.1)) res.2) (hf : BX4_gives rec x1 x2 x3 x4 x5 σ = some res) : mMet l yX4_gives cX4_gives 9 (Option.some Jvm.ClassFile.FieldType.boolean) (mRm (d + 1 + 19) (28 * (d + 1) + 435)) G [.ref (mo G), .int x1, .int x2, .int x3, .int x4, .int x5] σ (some (.int res.1)) res.2 := by
  replace hf : (if x1 = (σ.1 0) then some ((1 : Int32), σ) else (some (x3 &&& (((ish (2 : Int32) x1) - (1 : Int32)) ^^^ (-1 : Int32)))).bind (fun v1 => if (fX4_has x3 x1) = (0 : Int32) then (mast σ 7 x1 (-1 : Int32)).bind (fun σ9 => (rec (x1 + (1 : Int32)) x2 x3 x4 x5 σ9).bind (fun e10 => some ((e10.1 &&& 1), e10.2))) else (lpw (LX4_gives_53 rec x1 x2 x3 x4 x5 v1) ((0 : Int32), σ)).bind ((fun e => Sum.elim (fun b7 => some ((1 : Int32), b7)) (fun b8 => some ((0 : Int32), b8)) e)))) = some res := hf
  refine m_start (by decide) rfl (Nat.le_of_ble_eq_true rfl) ?_
  intro p e s m args below meth c S hR hS ls hl
  obtain ⟨hx, hb, hml, hown, hts⟩ := S.1.1
  have hl : lv_has ls 9 [(0, .ref (mo G)), (1, .int x1), (2, .int x2), (3, .int x3), (4, .int x4), (5, .int x5)] := hl
  refine lv_iload_n hx hb dX4_gives_0 rfl (lv_at hl 1 rfl) ?_
  refine lv_aload_n hx hb dX4_gives_1 rfl (lv_at hl 0 rfl) ?_
  refine m_geti (k := 0) S hR (by decide) (by decide) q2526 dX4_gives_2 ?_
  refine lv_icmp_ne (tgt := 10) hx hb dX4_gives_5 (by decide) (fun c_5 => ?_) (fun c_5 => ?_)
  · replace hf := o_f hf c_5
    refine lv_iload_n hx hb dX4_gives_10 rfl (lv_at hl 3 rfl) ?_
    refine lv_iconst (v := 2) hx hb dX4_gives_11 (by decide) ?_
    refine lv_iload_n hx hb dX4_gives_12 rfl (lv_at hl 1 rfl) ?_
    refine lv_ishl hx hb dX4_gives_13 ?_
    refine lv_iconst (v := 1) hx hb dX4_gives_14 (by decide) ?_
    refine lv_isub hx hb dX4_gives_15 ?_
    refine lv_iconst (v := -1) hx hb dX4_gives_16 (by decide) ?_
    refine lv_ixor hx hb dX4_gives_17 ?_
    refine lv_iand hx hb dX4_gives_18 ?_
    refine k_bind hf (fun v1 hv1 hf => ?_)
    refine m_nmi hv1 ?_
    refine lv_istore (lv' := [(6, .int v1), (0, .ref (mo G)), (1, .int x1), (2, .int x2), (3, .int x3), (4, .int x4), (5, .int x5)]) hx hb dX4_gives_19 hl (by decide) rfl (fun ls hl => ?_)
    refine lv_iload_n hx hb dX4_gives_21 rfl (lv_at hl 4 rfl) ?_
    refine lv_iload_n hx hb dX4_gives_22 rfl (lv_at hl 2 rfl) ?_
    refine s_call (As := [.int x3, .int x1]) (rest := []) S.1.1 (met_X4_has rfl) wi_X4_has q2750 ⟨rfl, rfl⟩ ⟨by simp only [mRm]; omega, by simp only [mRm]; omega⟩ rfl hl.1 rfl (Nat.le_of_ble_eq_true rfl) dX4_gives_23 ⟨Nat.zero_le _, Nat.zero_le _⟩ ?_
    refine lv_if_ne (tgt := 50) hx hb dX4_gives_26 (by decide) (fun c_26 => ?_) (fun c_26 => ?_)
    · replace hf := o_f hf c_26
      refine lv_iconst (v := 0) hx hb dX4_gives_50 (by decide) ?_
      refine lv_istore (lv' := [(7, .int (0 : Int32)), (6, .int v1), (0, .ref (mo G)), (1, .int x1), (2, .int x2), (3, .int x3), (4, .int x4), (5, .int x5)]) hx hb dX4_gives_51 hl (by decide) rfl (fun ls hl => ?_)
      refine k_bind hf (fun b6 hb6 hf => ?_)
      refine wLX4_gives_53 S hrec hb6 ?_ ?_ _ _ _ hR hS (lv_sub (l' := [(0, .ref (mo G)), (1, .int x1), (2, .int x2), (3, .int x3), (4, .int x4), (5, .int x5), (6, .int v1), (7, .int (0 : Int32))]) hl [2, 3, 4, 5, 6, 7, 1, 0] rfl)
      · intro b7 eb; subst eb; intro H locs ls hR hS hl
        replace hf := o_l hf
        refine lv_iconst (v := 1) hx hb dX4_gives_147 (by decide) ?_
        obtain rfl := Option.some.inj hf
        exact m_iret S hR hS rfl dX4_gives_148
      · intro b8 eb; subst eb; intro H locs ls hR hS hl
        replace hf := o_r hf
        refine lv_iconst (v := 0) hx hb dX4_gives_155 (by decide) ?_
        obtain rfl := Option.some.inj hf
        exact m_iret S hR hS rfl dX4_gives_156
    · replace hf := o_t hf c_26
      refine lv_aload_n hx hb dX4_gives_29 rfl (lv_at hl 1 rfl) ?_
      refine m_geta (k := 7) S hR (by decide) (by decide) q2533 dX4_gives_30 ?_
      refine lv_iload_n hx hb dX4_gives_33 rfl (lv_at hl 2 rfl) ?_
      refine lv_iconst (v := -1) hx hb dX4_gives_34 (by decide) ?_
      refine k_bind hf (fun σ9 hσ9 hf => ?_)
      refine m_iast S hR hS hσ9 dX4_gives_35 (fun H locs hR hS => ?_)
      refine lv_aload_n hx hb dX4_gives_36 rfl (lv_at hl 1 rfl) ?_
      refine lv_iload_n hx hb dX4_gives_37 rfl (lv_at hl 2 rfl) ?_
      refine lv_iconst (v := 1) hx hb dX4_gives_38 (by decide) ?_
      refine lv_iadd hx hb dX4_gives_39 ?_
      refine lv_iload_n hx hb dX4_gives_40 rfl (lv_at hl 3 rfl) ?_
      refine lv_iload_n hx hb dX4_gives_41 rfl (lv_at hl 4 rfl) ?_
      refine lv_iload hx hb dX4_gives_42 (lv_at hl 5 rfl) ?_
      refine lv_iload hx hb dX4_gives_44 (lv_at hl 6 rfl) ?_
      refine k_bind hf (fun e10 he10 hf => ?_)
      refine m_call (As := [.int (x1 + (1 : Int32)), .int x2, .int x3, .int x4, .int x5]) (rest := []) S hR hS (hrec he10) wi_X4_gives rfl q2806 ⟨rfl, rfl⟩ ⟨by simp only [mRm]; omega, by simp only [mRm]; omega⟩ rfl hl.1 rfl (Nat.le_of_ble_eq_true rfl) dX4_gives_46 (fun H locs hR hS => ?_)
      obtain rfl := Option.some.inj hf
      exact m_iret S hR hS rfl dX4_gives_49
  · replace hf := o_t hf c_5
    refine lv_iconst (v := 1) hx hb dX4_gives_8 (by decide) ?_
    obtain rfl := Option.some.inj hf
    exact m_iret S hR hS rfl dX4_gives_9
set_option maxHeartbeats 4000000 in
set_option maxRecDepth 100000 in
theorem met_X4_gives {l : Launch} {G : mG} : ∀ {d : Nat} {x1 : Int32} {x2 : Int32} {x3 : Int32} {x4 : Int32} {x5 : Int32} {σ : mS} {res : Int32 × mS}, fX4_gives d x1 x2 x3 x4 x5 σ = some res → mMet l yX4_gives cX4_gives 9 (Option.some Jvm.ClassFile.FieldType.boolean) (mRm (d + 19) (28 * (d) + 435)) G [.ref (mo G), .int x1, .int x2, .int x3, .int x4, .int x5] σ (some (.int res.1)) res.2 := by
  intro d
  induction d with
  | zero => intro  x1 x2 x3 x4 x5 σ res hf; cases hf
  | succ d ih => intro  x1 x2 x3 x4 x5 σ res hf; exact wBX4_gives (fun h => ih h) hf
