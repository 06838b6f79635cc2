set_option maxRecDepth 100000
section TWA
variable {p : Program} {l : Launch} {e : Env} {s : State} {m : MethodId} {args : Array Value} {below : List Frame} {meth : Method} {c : Code} {D : va_G} {dA : Nat → ClassId} {ad : Nat → Nat} {A : Nat → Prop}
def P_X8_readPart_56 (rs : Int32 → S → (S → Prop) → Prop) (Q : S → Prop) (x2 : Int32) (σ : S) : Prop := (P_X8_lay ((-1) - x2) σ (fun σ1 => ((¬ (σ1 0 21) = 0 → (Q σ1)) ∧ ((σ1 0 21) = 0 → (P_X8_stepOn σ1 (fun σ3 => (Q σ3)))))))
def P_X8_readPart (rs : Int32 → S → (S → Prop) → Prop) (a1 : Int32) (σ : S) (Q : S → Prop) : Prop := (((σ 0 21) = 0 → ((¬ (σ 0 17) = 2 → ((¬ (σ 0 17) = 1 → (P_X8_mark 40 σ (fun σ6 => (rs (a1 + 1) σ6 (fun σ8 => (P_X8_mark 41 σ8 (fun σ10 => (Q σ10)))))))) ∧ ((σ 0 17) = 1 → (P_X8_which 202 σ (fun r13 σ12 => ((¬ r13 = (-1) → (P_X8_readPart_56 rs Q r13 σ12)) ∧ (r13 = (-1) → (P_X8_wrong 3 σ12 (fun σ14 => (P_X8_readPart_56 rs Q r13 σ14)))))))))) ∧ ((σ 0 17) = 2 → (P_X8_readNumber 0 9999 σ (fun r19 σ18 => (P_X8_lay r19 σ18 (fun σ20 => (Q σ20)))))))) ∧ (¬ (σ 0 21) = 0 → (Q σ)))
set_option maxHeartbeats 2000000 in
theorem w_X8_readPart_56 {rs : Int32 → S → (S → Prop) → Prop} {F L : Nat} (X : CX p s m args c meth cX8_readPart 3 none RX8 D dA ad A) (hrec : ∀ (σ : S) (sz : Nat) (a0 : Int32) (Q : S → Prop), rs a0 σ Q → CTv l yX8_readExpression cX8_readExpression 3 ({ frames := F, cells := 0, slots := 0, locals := L } : Room) D dA ad σ sz [pX 200, iX a0] Q) {Q : S → Prop} : ∀ (x2 : Int32) (σ : S) (H : Heap) (locs : List Loc) (ls : Array Slot), P_X8_readPart_56 rs Q x2 σ → PW D dA A s.heap ad (TH σ) H locs → LH ad ls 3 [(0, pX 200), (2, iX x2)] → WTv p l e ({ frames := F + 10, cells := 0, slots := 0, locals := L + 245 } : Room) s m args below meth c D dA ad A Q H locs (F0 m 56 ls []) := by
  intro x2 σ H locs ls hF hP hl
  unfold P_X8_readPart_56 at hF
  refine ph_aload_n (n := 0) X hl dX8_readPart_56 rfl rfl ?_
  refine lv_iconst (v := (-1)) X.1 X.2.1 dX8_readPart_57 (by decide) ?_
  refine ph_iload_n (n := 1) X hl dX8_readPart_58 rfl rfl ?_
  refine lv_isub X.1 X.2.1 dX8_readPart_59 ?_
  refine tw_callVv [iX ((-1) - x2)] X hP (met_X8_lay l D dA ad _ _ hF) (cwV 1 X.2.2.2.2.1 (lw_V q2085 q2087 qs60 q126 q2088) rfl rfl rfl (by decide +kernel) (by constructor <;> (dsimp only) <;> omega)) rfl hl (k8 := 0) (cs0 (k := 0)) (by decide) ⟨Nat.le_refl _, Nat.le_refl _⟩ dX8_readPart_60 rfl (fun σ1 H locs hF hP => ?_)
  refine ph_aload_n (n := 0) X hl dX8_readPart_63 rfl rfl ?_
  refine tw_geti 21 X hP q1791 dX8_readPart_64 ?_
  refine lv_if_ne (tgt := 74) X.1 X.2.1 dX8_readPart_67 (by decide) (fun c5 => ?_) (fun c5 => ?_)
  · have hF := hF.1 c5
    exact tw_vret X hP hF dX8_readPart_74
  · have hF := hF.2 c5
    refine ph_aload_n (n := 0) X hl dX8_readPart_70 rfl rfl ?_
    refine tw_callVv [] X hP (met_X8_stepOn l D dA ad _ _ hF) (cwV 0 X.2.2.2.2.1 (lw_V q2006 q2008 qs45 q126 q2009) rfl rfl rfl (by decide +kernel) (by constructor <;> (dsimp only) <;> omega)) rfl hl (k8 := 0) (cs0 (k := 0)) (by decide) ⟨Nat.le_refl _, Nat.le_refl _⟩ dX8_readPart_71 rfl (fun σ3 H locs hF hP => ?_)
    exact tw_vret X hP hF dX8_readPart_74
set_option maxHeartbeats 2000000 in
theorem met_X8_readPart {rs : Int32 → S → (S → Prop) → Prop} {F L : Nat} (l : Launch) (D : va_G) (dA : Nat → ClassId) (ad : Nat → Nat) (hrec : ∀ (σ : S) (sz : Nat) (a0 : Int32) (Q : S → Prop), rs a0 σ Q → CTv l yX8_readExpression cX8_readExpression 3 ({ frames := F, cells := 0, slots := 0, locals := L } : Room) D dA ad σ sz [pX 200, iX a0] Q) (σ : S) (sz : Nat) {a1 : Int32} {Q : S → Prop} (hF : P_X8_readPart rs a1 σ Q) : CTv l yX8_readPart cX8_readPart 3 ({ frames := F + 10, cells := 0, slots := 0, locals := L + 245 } : Room) D dA ad σ sz [pX 200, iX a1] Q := by
  unfold P_X8_readPart at hF
  refine ph_enter [pX 200, iX a1] (Qc := fun A => va_Qv (TQv Q) (CB D dA ad A) A) (by decide +kernel) (Nat.le_of_ble_eq_true rfl) ?_
  intro p e s m args below meth c A ls X hP hl hnm
  have hl : LH ad ls 3 [(0, pX 200), (1, iX a1)] := hl
  refine ph_aload_n (n := 0) X hl dX8_readPart_0 rfl rfl ?_
  refine tw_geti 21 X hP q1791 dX8_readPart_1 ?_
  refine lv_if_eq (tgt := 8) X.1 X.2.1 dX8_readPart_4 (by decide) (fun c23 => ?_) (fun c23 => ?_)
  · have hF := hF.1 c23
    refine ph_aload_n (n := 0) X hl dX8_readPart_8 rfl rfl ?_
    refine tw_geti 17 X hP q1787 dX8_readPart_9 ?_
    refine lv_iconst (v := 2) X.1 X.2.1 dX8_readPart_12 (by decide) ?_
    refine lv_icmp_ne (tgt := 29) X.1 X.2.1 dX8_readPart_13 (by decide) (fun c22 => ?_) (fun c22 => ?_)
    · have hF := hF.1 c22
      refine ph_aload_n (n := 0) X hl dX8_readPart_29 rfl rfl ?_
      refine tw_geti 17 X hP q1787 dX8_readPart_30 ?_
      refine lv_iconst (v := 1) X.1 X.2.1 dX8_readPart_33 (by decide) ?_
      refine lv_icmp_ne (tgt := 75) X.1 X.2.1 dX8_readPart_34 (by decide) (fun c17 => ?_) (fun c17 => ?_)
      · have hF := hF.1 c17
        refine ph_aload_n (n := 0) X hl dX8_readPart_75 rfl rfl ?_
        refine lv_bipush (v := 40) X.1 X.2.1 dX8_readPart_76 (by decide) ?_
        refine tw_callVv [iX 40] X hP (met_X8_mark l D dA ad _ _ hF) (cwV 1 X.2.2.2.2.1 (lw_V q2089 q2091 qs61 q126 q2092) rfl rfl rfl (by decide +kernel) (by constructor <;> (dsimp only) <;> omega)) rfl hl (k8 := 0) (cs0 (k := 0)) (by decide) ⟨Nat.le_refl _, Nat.le_refl _⟩ dX8_readPart_78 rfl (fun σ6 H locs hF hP => ?_)
        refine ph_aload_n (n := 0) X hl dX8_readPart_81 rfl rfl ?_
        refine ph_iload_n (n := 1) X hl dX8_readPart_82 rfl rfl ?_
        refine lv_iconst (v := 1) X.1 X.2.1 dX8_readPart_83 (by decide) ?_
        refine lv_iadd X.1 X.2.1 dX8_readPart_84 ?_
        refine tw_callVv [iX (a1 + 1)] X hP (hrec _ _ _ _ hF) (cwV 1 X.2.2.2.2.1 (lw_V q2056 q2058 qs53 q126 q2059) rfl rfl rfl (by decide +kernel) (by constructor <;> (dsimp only) <;> omega)) rfl hl (k8 := 0) (cs0 (k := 0)) (by decide) ⟨Nat.le_refl _, Nat.le_refl _⟩ dX8_readPart_85 rfl (fun σ8 H locs hF hP => ?_)
        refine ph_aload_n (n := 0) X hl dX8_readPart_88 rfl rfl ?_
        refine lv_bipush (v := 41) X.1 X.2.1 dX8_readPart_89 (by decide) ?_
        refine tw_callVv [iX 41] X hP (met_X8_mark l D dA ad _ _ hF) (cwV 1 X.2.2.2.2.1 (lw_V q2089 q2091 qs61 q126 q2092) rfl rfl rfl (by decide +kernel) (by constructor <;> (dsimp only) <;> omega)) rfl hl (k8 := 0) (cs0 (k := 0)) (by decide) ⟨Nat.le_refl _, Nat.le_refl _⟩ dX8_readPart_91 rfl (fun σ10 H locs hF hP => ?_)
        exact tw_vret X hP hF dX8_readPart_94
      · have hF := hF.2 c17
        refine ph_aload_n (n := 0) X hl dX8_readPart_37 rfl rfl ?_
        refine ph_aload_n (n := 0) X hl dX8_readPart_38 rfl rfl ?_
        refine tw_getr 1 202 X hP q1771 dX8_readPart_39 ?_
        refine tw_callVi [pX 202] X hP (met_X8_which l D dA ad _ _ hF) (cwV 1 X.2.2.2.2.1 (lw_V q2040 q2042 qs49 q126 q2043) rfl rfl rfl (by decide +kernel) (by constructor <;> (dsimp only) <;> omega)) rfl hl (k8 := 0) (cs0 (k := 0)) (by decide) ⟨Nat.le_refl _, Nat.le_refl _⟩ dX8_readPart_42 rfl (fun r13 σ12 H locs hF hP => ?_)
        refine ph_istore_n X hl dX8_readPart_45 rfl (by decide) rfl (fun ls hl => ?_)
        refine ph_iload_n (n := 0) X hl dX8_readPart_46 rfl rfl ?_
        refine lv_iconst (v := (-1)) X.1 X.2.1 dX8_readPart_47 (by decide) ?_
        refine lv_icmp_ne (tgt := 56) X.1 X.2.1 dX8_readPart_48 (by decide) (fun c16 => ?_) (fun c16 => ?_)
        · have hF := hF.1 c16
          exact w_X8_readPart_56 X hrec _ _ _ _ _ hF hP (lh_sub hl [1, 0] rfl)
        · have hF := hF.2 c16
          refine ph_aload_n (n := 1) X hl dX8_readPart_51 rfl rfl ?_
          refine lv_iconst (v := 3) X.1 X.2.1 dX8_readPart_52 (by decide) ?_
          refine tw_callVv [iX 3] X hP (met_X8_wrong l D dA ad _ _ hF) (cwV 1 X.2.2.2.2.1 (lw_V q2044 q2046 qs50 q126 q2047) rfl rfl rfl (by decide +kernel) (by constructor <;> (dsimp only) <;> omega)) rfl hl (k8 := 0) (cs0 (k := 0)) (by decide) ⟨Nat.le_refl _, Nat.le_refl _⟩ dX8_readPart_53 rfl (fun σ14 H locs hF hP => ?_)
          exact w_X8_readPart_56 X hrec _ _ _ _ _ hF hP (lh_sub hl [1, 0] rfl)
    · have hF := hF.2 c22
      refine ph_aload_n (n := 0) X hl dX8_readPart_16 rfl rfl ?_
      refine ph_aload_n (n := 0) X hl dX8_readPart_17 rfl rfl ?_
      refine lv_iconst (v := 0) X.1 X.2.1 dX8_readPart_18 (by decide) ?_
      refine lv_sipush (v := 9999) X.1 X.2.1 dX8_readPart_19 (by decide) ?_
      refine tw_callVi [iX 0, iX 9999] X hP (met_X8_readNumber l D dA ad _ _ hF) (cwV 2 X.2.2.2.2.1 (lw_V q2048 q2050 qs51 q126 q2051) rfl rfl rfl (by decide +kernel) (by constructor <;> (dsimp only) <;> omega)) rfl hl (k8 := 1) (csr (cs0 (k := 0))) (by decide) ⟨Nat.le_refl _, Nat.le_refl _⟩ dX8_readPart_22 rfl (fun r19 σ18 H locs hF hP => ?_)
      refine tw_callVv [iX r19] X hP (met_X8_lay l D dA ad _ _ hF) (cwV 1 X.2.2.2.2.1 (lw_V q2085 q2087 qs60 q126 q2088) rfl rfl rfl (by decide +kernel) (by constructor <;> (dsimp only) <;> omega)) rfl hl (k8 := 0) (cs0 (k := 0)) (by decide) ⟨Nat.le_refl _, Nat.le_refl _⟩ dX8_readPart_25 rfl (fun σ20 H locs hF hP => ?_)
      exact tw_vret X hP hF dX8_readPart_28
  · have hF := hF.2 c23
    exact tw_vret X hP hF dX8_readPart_7
def P_X8_readProduct_39 (rs : Int32 → S → (S → Prop) → Prop) (Q : S → Prop) (k5 : Int32 → S → Prop) (y0 : Int32) (x1 : Int32) (σ : S) : Prop := (P_X8_stepOn σ (fun σ1 => (P_X8_readPart rs x1 σ1 (fun σ3 => (P_X8_lay y0 σ3 (fun σ5 => (k5 x1 σ5)))))))
def P_X8_readProduct_23 (rs : Int32 → S → (S → Prop) → Prop) (Q : S → Prop) (k5 : Int32 → S → Prop) (x1 : Int32) (σ : S) : Prop := (P_X8_isMarked 42 σ (fun r8 σ7 => ((r8 = 0 → (P_X8_readProduct_39 rs Q k5 (-23) x1 σ7)) ∧ (¬ r8 = 0 → (P_X8_readProduct_39 rs Q k5 (-22) x1 σ7)))))
def P_X8_readProduct_5 (rs : Int32 → S → (S → Prop) → Prop) (Q : S → Prop) : Nat → Int32 → S → Prop
  | 0, _, _ => False
  | n + 1, x1, σ => (P_X8_isMarked 42 σ (fun r11 σ10 => ((¬ r11 = 0 → (P_X8_readProduct_23 rs Q (fun z0 z1 => P_X8_readProduct_5 rs Q  n z0 z1) x1 σ10)) ∧ (r11 = 0 → (P_X8_isMarked 47 σ10 (fun r13 σ12 => ((r13 = 0 → (Q σ12)) ∧ (¬ r13 = 0 → (P_X8_readProduct_23 rs Q (fun z0 z1 => P_X8_readProduct_5 rs Q  n z0 z1) x1 σ12)))))))))
def P_X8_readProduct (rs : Int32 → S → (S → Prop) → Prop) (a1 : Int32) (σ : S) (Q : S → Prop) : Prop := (P_X8_readPart rs a1 σ (fun σ16 => (∃ n9, P_X8_readProduct_5 rs Q n9 a1 σ16)))
set_option maxHeartbeats 2000000 in
theorem w_X8_readProduct_39 {rs : Int32 → S → (S → Prop) → Prop} {F L : Nat} (X : CX p s m args c meth cX8_readProduct 3 none RX8 D dA ad A) (hrec : ∀ (σ : S) (sz : Nat) (a0 : Int32) (Q : S → Prop), rs a0 σ Q → CTv l yX8_readExpression cX8_readExpression 3 ({ frames := F, cells := 0, slots := 0, locals := L } : Room) D dA ad σ sz [pX 200, iX a0] Q) {Q : S → Prop} {k5 : Int32 → S → Prop} (hk5 : ∀ (x1 : Int32) (σ : S) (H : Heap) (locs : List Loc) (ls : Array Slot), k5 x1 σ → PW D dA A s.heap ad (TH σ) H locs → LH ad ls 3 [(0, pX 200), (1, iX x1)] → WTv p l e ({ frames := F + 11, cells := 0, slots := 0, locals := L + 267 } : Room) s m args below meth c D dA ad A Q H locs (F0 m 5 ls [])) : ∀ (y0 : Int32) (x1 : Int32) (σ : S) (H : Heap) (locs : List Loc) (ls : Array Slot), P_X8_readProduct_39 rs Q k5 y0 x1 σ → PW D dA A s.heap ad (TH σ) H locs → LH ad ls 3 [(0, pX 200), (1, iX x1)] → WTv p l e ({ frames := F + 11, cells := 0, slots := 0, locals := L + 267 } : Room) s m args below meth c D dA ad A Q H locs (F0 m 39 ls [.int y0]) := by
  intro y0 x1 σ H locs ls hF hP hl
  unfold P_X8_readProduct_39 at hF
  refine ph_istore_n X hl dX8_readProduct_39 rfl (by decide) rfl (fun ls hl => ?_)
  refine ph_aload_n (n := 1) X hl dX8_readProduct_40 rfl rfl ?_
  refine tw_callVv [] X hP (met_X8_stepOn l D dA ad _ _ hF) (cwV 0 X.2.2.2.2.1 (lw_V q2006 q2008 qs45 q126 q2009) rfl rfl rfl (by decide +kernel) (by constructor <;> (dsimp only) <;> omega)) rfl hl (k8 := 0) (cs0 (k := 0)) (by decide) ⟨Nat.le_refl _, Nat.le_refl _⟩ dX8_readProduct_41 rfl (fun σ1 H locs hF hP => ?_)
  refine ph_aload_n (n := 1) X hl dX8_readProduct_44 rfl rfl ?_
  refine ph_iload_n (n := 2) X hl dX8_readProduct_45 rfl rfl ?_
  refine tw_callVv [iX x1] X hP (met_X8_readPart l D dA ad hrec _ _ hF) (cwV 1 X.2.2.2.2.1 (lw_V q2081 q2083 qs59 q126 q2084) rfl rfl rfl (by decide +kernel) (by constructor <;> (dsimp only) <;> omega)) rfl hl (k8 := 0) (cs0 (k := 0)) (by decide) ⟨Nat.le_refl _, Nat.le_refl _⟩ dX8_readProduct_46 rfl (fun σ3 H locs hF hP => ?_)
  refine ph_aload_n (n := 1) X hl dX8_readProduct_49 rfl rfl ?_
  refine ph_iload_n (n := 0) X hl dX8_readProduct_50 rfl rfl ?_
  refine tw_callVv [iX y0] X hP (met_X8_lay l D dA ad _ _ hF) (cwV 1 X.2.2.2.2.1 (lw_V q2085 q2087 qs60 q126 q2088) rfl rfl rfl (by decide +kernel) (by constructor <;> (dsimp only) <;> omega)) rfl hl (k8 := 0) (cs0 (k := 0)) (by decide) ⟨Nat.le_refl _, Nat.le_refl _⟩ dX8_readProduct_51 rfl (fun σ5 H locs hF hP => ?_)
  refine lv_goto (tgt := 5) X.1 X.2.1 dX8_readProduct_54 (by decide) ?_
  exact hk5 _ _ _ _ _ hF hP (lh_sub hl [1, 2] rfl)
set_option maxHeartbeats 2000000 in
theorem w_X8_readProduct_23 {rs : Int32 → S → (S → Prop) → Prop} {F L : Nat} (X : CX p s m args c meth cX8_readProduct 3 none RX8 D dA ad A) (hrec : ∀ (σ : S) (sz : Nat) (a0 : Int32) (Q : S → Prop), rs a0 σ Q → CTv l yX8_readExpression cX8_readExpression 3 ({ frames := F, cells := 0, slots := 0, locals := L } : Room) D dA ad σ sz [pX 200, iX a0] Q) {Q : S → Prop} {k5 : Int32 → S → Prop} (hk5 : ∀ (x1 : Int32) (σ : S) (H : Heap) (locs : List Loc) (ls : Array Slot), k5 x1 σ → PW D dA A s.heap ad (TH σ) H locs → LH ad ls 3 [(0, pX 200), (1, iX x1)] → WTv p l e ({ frames := F + 11, cells := 0, slots := 0, locals := L + 267 } : Room) s m args below meth c D dA ad A Q H locs (F0 m 5 ls [])) : ∀ (x1 : Int32) (σ : S) (H : Heap) (locs : List Loc) (ls : Array Slot), P_X8_readProduct_23 rs Q k5 x1 σ → PW D dA A s.heap ad (TH σ) H locs → LH ad ls 3 [(0, pX 200), (1, iX x1)] → WTv p l e ({ frames := F + 11, cells := 0, slots := 0, locals := L + 267 } : Room) s m args below meth c D dA ad A Q H locs (F0 m 23 ls []) := by
  intro x1 σ H locs ls hF hP hl
  unfold P_X8_readProduct_23 at hF
  refine ph_aload_n (n := 0) X hl dX8_readProduct_23 rfl rfl ?_
  refine lv_bipush (v := 42) X.1 X.2.1 dX8_readProduct_24 (by decide) ?_
  refine tw_callVi [iX 42] X hP (met_X8_isMarked l D dA ad _ _ hF) (cwV 1 X.2.2.2.2.1 (lw_V q2060 q2062 qs54 q126 q2063) rfl rfl rfl (by decide +kernel) (by constructor <;> (dsimp only) <;> omega)) rfl hl (k8 := 0) (cs0 (k := 0)) (by decide) ⟨Nat.le_refl _, Nat.le_refl _⟩ dX8_readProduct_26 rfl (fun r8 σ7 H locs hF hP => ?_)
  refine lv_if_eq (tgt := 37) X.1 X.2.1 dX8_readProduct_29 (by decide) (fun c9 => ?_) (fun c9 => ?_)
  · have hF := hF.1 c9
    refine lv_bipush (v := (-23)) X.1 X.2.1 dX8_readProduct_37 (by decide) ?_
    exact w_X8_readProduct_39 X hrec hk5 _ _ _ _ _ _ hF hP hl
  · have hF := hF.2 c9
    refine lv_bipush (v := (-22)) X.1 X.2.1 dX8_readProduct_32 (by decide) ?_
    refine lv_goto (tgt := 39) X.1 X.2.1 dX8_readProduct_34 (by decide) ?_
    exact w_X8_readProduct_39 X hrec hk5 _ _ _ _ _ _ hF hP hl
set_option maxHeartbeats 2000000 in
theorem w_X8_readProduct_5 {rs : Int32 → S → (S → Prop) → Prop} {F L : Nat} (X : CX p s m args c meth cX8_readProduct 3 none RX8 D dA ad A) (hrec : ∀ (σ : S) (sz : Nat) (a0 : Int32) (Q : S → Prop), rs a0 σ Q → CTv l yX8_readExpression cX8_readExpression 3 ({ frames := F, cells := 0, slots := 0, locals := L } : Room) D dA ad σ sz [pX 200, iX a0] Q) {Q : S → Prop} : ∀ (n : Nat) (x1 : Int32) (σ : S) (H : Heap) (locs : List Loc) (ls : Array Slot), P_X8_readProduct_5 rs Q n x1 σ → PW D dA A s.heap ad (TH σ) H locs → LH ad ls 3 [(0, pX 200), (1, iX x1)] → WTv p l e ({ frames := F + 11, cells := 0, slots := 0, locals := L + 267 } : Room) s m args below meth c D dA ad A Q H locs (F0 m 5 ls []) := by
  intro n
  induction n with
  | zero =>
    intro x1 σ H locs ls hF
    exact hF.elim
  | succ n ih =>
    intro x1 σ H locs ls hF hP hl
    rw [P_X8_readProduct_5] at hF
    refine ph_aload_n (n := 0) X hl dX8_readProduct_5 rfl rfl ?_
    refine lv_bipush (v := 42) X.1 X.2.1 dX8_readProduct_6 (by decide) ?_
    refine tw_callVi [iX 42] X hP (met_X8_isMarked l D dA ad _ _ hF) (cwV 1 X.2.2.2.2.1 (lw_V q2060 q2062 qs54 q126 q2063) rfl rfl rfl (by decide +kernel) (by constructor <;> (dsimp only) <;> omega)) rfl hl (k8 := 0) (cs0 (k := 0)) (by decide) ⟨Nat.le_refl _, Nat.le_refl _⟩ dX8_readProduct_8 rfl (fun r11 σ10 H locs hF hP => ?_)
    refine lv_if_ne (tgt := 23) X.1 X.2.1 dX8_readProduct_11 (by decide) (fun c15 => ?_) (fun c15 => ?_)
    · have hF := hF.1 c15
      exact w_X8_readProduct_23 X hrec ih _ _ _ _ _ hF hP hl
    · have hF := hF.2 c15
      refine ph_aload_n (n := 0) X hl dX8_readProduct_14 rfl rfl ?_
      refine lv_bipush (v := 47) X.1 X.2.1 dX8_readProduct_15 (by decide) ?_
      refine tw_callVi [iX 47] X hP (met_X8_isMarked l D dA ad _ _ hF) (cwV 1 X.2.2.2.2.1 (lw_V q2060 q2062 qs54 q126 q2063) rfl rfl rfl (by decide +kernel) (by constructor <;> (dsimp only) <;> omega)) rfl hl (k8 := 0) (cs0 (k := 0)) (by decide) ⟨Nat.le_refl _, Nat.le_refl _⟩ dX8_readProduct_17 rfl (fun r13 σ12 H locs hF hP => ?_)
      refine lv_if_eq (tgt := 57) X.1 X.2.1 dX8_readProduct_20 (by decide) (fun c14 => ?_) (fun c14 => ?_)
      · have hF := hF.1 c14
        exact tw_vret X hP hF dX8_readProduct_57
      · have hF := hF.2 c14
        exact w_X8_readProduct_23 X hrec ih _ _ _ _ _ hF hP hl
set_option maxHeartbeats 2000000 in
theorem met_X8_readProduct {rs : Int32 → S → (S → Prop) → Prop} {F L : Nat} (l : Launch) (D : va_G) (dA : Nat → ClassId) (ad : Nat → Nat) (hrec : ∀ (σ : S) (sz : Nat) (a0 : Int32) (Q : S → Prop), rs a0 σ Q → CTv l yX8_readExpression cX8_readExpression 3 ({ frames := F, cells := 0, slots := 0, locals := L } : Room) D dA ad σ sz [pX 200, iX a0] Q) (σ : S) (sz : Nat) {a1 : Int32} {Q : S → Prop} (hF : P_X8_readProduct rs a1 σ Q) : CTv l yX8_readProduct cX8_readProduct 3 ({ frames := F + 11, cells := 0, slots := 0, locals := L + 267 } : Room) D dA ad σ sz [pX 200, iX a1] Q := by
  unfold P_X8_readProduct at hF
  refine ph_enter [pX 200, iX a1] (Qc := fun A => va_Qv (TQv Q) (CB D dA ad A) A) (by decide +kernel) (Nat.le_of_ble_eq_true rfl) ?_
  intro p e s m args below meth c A ls X hP hl hnm
  have hl : LH ad ls 3 [(0, pX 200), (1, iX a1)] := hl
  refine ph_aload_n (n := 0) X hl dX8_readProduct_0 rfl rfl ?_
  refine ph_iload_n (n := 1) X hl dX8_readProduct_1 rfl rfl ?_
  refine tw_callVv [iX a1] X hP (met_X8_readPart l D dA ad hrec _ _ hF) (cwV 1 X.2.2.2.2.1 (lw_V q2081 q2083 qs59 q126 q2084) rfl rfl rfl (by decide +kernel) (by constructor <;> (dsimp only) <;> omega)) rfl hl (k8 := 0) (cs0 (k := 0)) (by decide) ⟨Nat.le_refl _, Nat.le_refl _⟩ dX8_readProduct_2 rfl (fun σ16 H locs hF hP => ?_)
  obtain ⟨n9, hF⟩ := hF
  exact w_X8_readProduct_5 X hrec n9 _ _ _ _ _ hF hP hl
def P_X8_readSum_39 (rs : Int32 → S → (S → Prop) → Prop) (Q : S → Prop) (k5 : Int32 → S → Prop) (y0 : Int32) (x1 : Int32) (σ : S) : Prop := (P_X8_stepOn σ (fun σ1 => (P_X8_readProduct rs x1 σ1 (fun σ3 => (P_X8_lay y0 σ3 (fun σ5 => (k5 x1 σ5)))))))
def P_X8_readSum_23 (rs : Int32 → S → (S → Prop) → Prop) (Q : S → Prop) (k5 : Int32 → S → Prop) (x1 : Int32) (σ : S) : Prop := (P_X8_isMarked 43 σ (fun r8 σ7 => ((r8 = 0 → (P_X8_readSum_39 rs Q k5 (-21) x1 σ7)) ∧ (¬ r8 = 0 → (P_X8_readSum_39 rs Q k5 (-20) x1 σ7)))))
def P_X8_readSum_5 (rs : Int32 → S → (S → Prop) → Prop) (Q : S → Prop) : Nat → Int32 → S → Prop
  | 0, _, _ => False
  | n + 1, x1, σ => (P_X8_isMarked 43 σ (fun r11 σ10 => ((¬ r11 = 0 → (P_X8_readSum_23 rs Q (fun z0 z1 => P_X8_readSum_5 rs Q  n z0 z1) x1 σ10)) ∧ (r11 = 0 → (P_X8_isMarked 45 σ10 (fun r13 σ12 => ((r13 = 0 → (Q σ12)) ∧ (¬ r13 = 0 → (P_X8_readSum_23 rs Q (fun z0 z1 => P_X8_readSum_5 rs Q  n z0 z1) x1 σ12)))))))))
def P_X8_readSum (rs : Int32 → S → (S → Prop) → Prop) (a1 : Int32) (σ : S) (Q : S → Prop) : Prop := (P_X8_readProduct rs a1 σ (fun σ16 => (∃ n9, P_X8_readSum_5 rs Q n9 a1 σ16)))
set_option maxHeartbeats 2000000 in
theorem w_X8_readSum_39 {rs : Int32 → S → (S → Prop) → Prop} {F L : Nat} (X : CX p s m args c meth cX8_readSum 3 none RX8 D dA ad A) (hrec : ∀ (σ : S) (sz : Nat) (a0 : Int32) (Q : S → Prop), rs a0 σ Q → CTv l yX8_readExpression cX8_readExpression 3 ({ frames := F, cells := 0, slots := 0, locals := L } : Room) D dA ad σ sz [pX 200, iX a0] Q) {Q : S → Prop} {k5 : Int32 → S → Prop} (hk5 : ∀ (x1 : Int32) (σ : S) (H : Heap) (locs : List Loc) (ls : Array Slot), k5 x1 σ → PW D dA A s.heap ad (TH σ) H locs → LH ad ls 3 [(0, pX 200), (1, iX x1)] → WTv p l e ({ frames := F + 12, cells := 0, slots := 0, locals := L + 289 } : Room) s m args below meth c D dA ad A Q H locs (F0 m 5 ls [])) : ∀ (y0 : Int32) (x1 : Int32) (σ : S) (H : Heap) (locs : List Loc) (ls : Array Slot), P_X8_readSum_39 rs Q k5 y0 x1 σ → PW D dA A s.heap ad (TH σ) H locs → LH ad ls 3 [(0, pX 200), (1, iX x1)] → WTv p l e ({ frames := F + 12, cells := 0, slots := 0, locals := L + 289 } : Room) s m args below meth c D dA ad A Q H locs (F0 m 39 ls [.int y0]) := by
  intro y0 x1 σ H locs ls hF hP hl
  unfold P_X8_readSum_39 at hF
  refine ph_istore_n X hl dX8_readSum_39 rfl (by decide) rfl (fun ls hl => ?_)
  refine ph_aload_n (n := 1) X hl dX8_readSum_40 rfl rfl ?_
  refine tw_callVv [] X hP (met_X8_stepOn l D dA ad _ _ hF) (cwV 0 X.2.2.2.2.1 (lw_V q2006 q2008 qs45 q126 q2009) rfl rfl rfl (by decide +kernel) (by constructor <;> (dsimp only) <;> omega)) rfl hl (k8 := 0) (cs0 (k := 0)) (by decide) ⟨Nat.le_refl _, Nat.le_refl _⟩ dX8_readSum_41 rfl (fun σ1 H locs hF hP => ?_)
  refine ph_aload_n (n := 1) X hl dX8_readSum_44 rfl rfl ?_
  refine ph_iload_n (n := 2) X hl dX8_readSum_45 rfl rfl ?_
  refine tw_callVv [iX x1] X hP (met_X8_readProduct l D dA ad hrec _ _ hF) (cwV 1 X.2.2.2.2.1 (lw_V q2077 q2079 qs58 q126 q2080) rfl rfl rfl (by decide +kernel) (by constructor <;> (dsimp only) <;> omega)) rfl hl (k8 := 0) (cs0 (k := 0)) (by decide) ⟨Nat.le_refl _, Nat.le_refl _⟩ dX8_readSum_46 rfl (fun σ3 H locs hF hP => ?_)
  refine ph_aload_n (n := 1) X hl dX8_readSum_49 rfl rfl ?_
  refine ph_iload_n (n := 0) X hl dX8_readSum_50 rfl rfl ?_
  refine tw_callVv [iX y0] X hP (met_X8_lay l D dA ad _ _ hF) (cwV 1 X.2.2.2.2.1 (lw_V q2085 q2087 qs60 q126 q2088) rfl rfl rfl (by decide +kernel) (by constructor <;> (dsimp only) <;> omega)) rfl hl (k8 := 0) (cs0 (k := 0)) (by decide) ⟨Nat.le_refl _, Nat.le_refl _⟩ dX8_readSum_51 rfl (fun σ5 H locs hF hP => ?_)
  refine lv_goto (tgt := 5) X.1 X.2.1 dX8_readSum_54 (by decide) ?_
  exact hk5 _ _ _ _ _ hF hP (lh_sub hl [1, 2] rfl)
set_option maxHeartbeats 2000000 in
theorem w_X8_readSum_23 {rs : Int32 → S → (S → Prop) → Prop} {F L : Nat} (X : CX p s m args c meth cX8_readSum 3 none RX8 D dA ad A) (hrec : ∀ (σ : S) (sz : Nat) (a0 : Int32) (Q : S → Prop), rs a0 σ Q → CTv l yX8_readExpression cX8_readExpression 3 ({ frames := F, cells := 0, slots := 0, locals := L } : Room) D dA ad σ sz [pX 200, iX a0] Q) {Q : S → Prop} {k5 : Int32 → S → Prop} (hk5 : ∀ (x1 : Int32) (σ : S) (H : Heap) (locs : List Loc) (ls : Array Slot), k5 x1 σ → PW D dA A s.heap ad (TH σ) H locs → LH ad ls 3 [(0, pX 200), (1, iX x1)] → WTv p l e ({ frames := F + 12, cells := 0, slots := 0, locals := L + 289 } : Room) s m args below meth c D dA ad A Q H locs (F0 m 5 ls [])) : ∀ (x1 : Int32) (σ : S) (H : Heap) (locs : List Loc) (ls : Array Slot), P_X8_readSum_23 rs Q k5 x1 σ → PW D dA A s.heap ad (TH σ) H locs → LH ad ls 3 [(0, pX 200), (1, iX x1)] → WTv p l e ({ frames := F + 12, cells := 0, slots := 0, locals := L + 289 } : Room) s m args below meth c D dA ad A Q H locs (F0 m 23 ls []) := by
  intro x1 σ H locs ls hF hP hl
  unfold P_X8_readSum_23 at hF
  refine ph_aload_n (n := 0) X hl dX8_readSum_23 rfl rfl ?_
  refine lv_bipush (v := 43) X.1 X.2.1 dX8_readSum_24 (by decide) ?_
  refine tw_callVi [iX 43] X hP (met_X8_isMarked l D dA ad _ _ hF) (cwV 1 X.2.2.2.2.1 (lw_V q2060 q2062 qs54 q126 q2063) rfl rfl rfl (by decide +kernel) (by constructor <;> (dsimp only) <;> omega)) rfl hl (k8 := 0) (cs0 (k := 0)) (by decide) ⟨Nat.le_refl _, Nat.le_refl _⟩ dX8_readSum_26 rfl (fun r8 σ7 H locs hF hP => ?_)
  refine lv_if_eq (tgt := 37) X.1 X.2.1 dX8_readSum_29 (by decide) (fun c9 => ?_) (fun c9 => ?_)
  · have hF := hF.1 c9
    refine lv_bipush (v := (-21)) X.1 X.2.1 dX8_readSum_37 (by decide) ?_
    exact w_X8_readSum_39 X hrec hk5 _ _ _ _ _ _ hF hP hl
  · have hF := hF.2 c9
    refine lv_bipush (v := (-20)) X.1 X.2.1 dX8_readSum_32 (by decide) ?_
    refine lv_goto (tgt := 39) X.1 X.2.1 dX8_readSum_34 (by decide) ?_
    exact w_X8_readSum_39 X hrec hk5 _ _ _ _ _ _ hF hP hl
set_option maxHeartbeats 2000000 in
theorem w_X8_readSum_5 {rs : Int32 → S → (S → Prop) → Prop} {F L : Nat} (X : CX p s m args c meth cX8_readSum 3 none RX8 D dA ad A) (hrec : ∀ (σ : S) (sz : Nat) (a0 : Int32) (Q : S → Prop), rs a0 σ Q → CTv l yX8_readExpression cX8_readExpression 3 ({ frames := F, cells := 0, slots := 0, locals := L } : Room) D dA ad σ sz [pX 200, iX a0] Q) {Q : S → Prop} : ∀ (n : Nat) (x1 : Int32) (σ : S) (H : Heap) (locs : List Loc) (ls : Array Slot), P_X8_readSum_5 rs Q n x1 σ → PW D dA A s.heap ad (TH σ) H locs → LH ad ls 3 [(0, pX 200), (1, iX x1)] → WTv p l e ({ frames := F + 12, cells := 0, slots := 0, locals := L + 289 } : Room) s m args below meth c D dA ad A Q H locs (F0 m 5 ls []) := by
  intro n
  induction n with
  | zero =>
    intro x1 σ H locs ls hF
    exact hF.elim
  | succ n ih =>
    intro x1 σ H locs ls hF hP hl
    rw [P_X8_readSum_5] at hF
    refine ph_aload_n (n := 0) X hl dX8_readSum_5 rfl rfl ?_
    refine lv_bipush (v := 43) X.1 X.2.1 dX8_readSum_6 (by decide) ?_
    refine tw_callVi [iX 43] X hP (met_X8_isMarked l D dA ad _ _ hF) (cwV 1 X.2.2.2.2.1 (lw_V q2060 q2062 qs54 q126 q2063) rfl rfl rfl (by decide +kernel) (by constructor <;> (dsimp only) <;> omega)) rfl hl (k8 := 0) (cs0 (k := 0)) (by decide) ⟨Nat.le_refl _, Nat.le_refl _⟩ dX8_readSum_8 rfl (fun r11 σ10 H locs hF hP => ?_)
    refine lv_if_ne (tgt := 23) X.1 X.2.1 dX8_readSum_11 (by decide) (fun c15 => ?_) (fun c15 => ?_)
    · have hF := hF.1 c15
      exact w_X8_readSum_23 X hrec ih _ _ _ _ _ hF hP hl
    · have hF := hF.2 c15
      refine ph_aload_n (n := 0) X hl dX8_readSum_14 rfl rfl ?_
      refine lv_bipush (v := 45) X.1 X.2.1 dX8_readSum_15 (by decide) ?_
      refine tw_callVi [iX 45] X hP (met_X8_isMarked l D dA ad _ _ hF) (cwV 1 X.2.2.2.2.1 (lw_V q2060 q2062 qs54 q126 q2063) rfl rfl rfl (by decide +kernel) (by constructor <;> (dsimp only) <;> omega)) rfl hl (k8 := 0) (cs0 (k := 0)) (by decide) ⟨Nat.le_refl _, Nat.le_refl _⟩ dX8_readSum_17 rfl (fun r13 σ12 H locs hF hP => ?_)
      refine lv_if_eq (tgt := 57) X.1 X.2.1 dX8_readSum_20 (by decide) (fun c14 => ?_) (fun c14 => ?_)
      · have hF := hF.1 c14
        exact tw_vret X hP hF dX8_readSum_57
      · have hF := hF.2 c14
        exact w_X8_readSum_23 X hrec ih _ _ _ _ _ hF hP hl
set_option maxHeartbeats 2000000 in
theorem met_X8_readSum {rs : Int32 → S → (S → Prop) → Prop} {F L : Nat} (l : Launch) (D : va_G) (dA : Nat → ClassId) (ad : Nat → Nat) (hrec : ∀ (σ : S) (sz : Nat) (a0 : Int32) (Q : S → Prop), rs a0 σ Q → CTv l yX8_readExpression cX8_readExpression 3 ({ frames := F, cells := 0, slots := 0, locals := L } : Room) D dA ad σ sz [pX 200, iX a0] Q) (σ : S) (sz : Nat) {a1 : Int32} {Q : S → Prop} (hF : P_X8_readSum rs a1 σ Q) : CTv l yX8_readSum cX8_readSum 3 ({ frames := F + 12, cells := 0, slots := 0, locals := L + 289 } : Room) D dA ad σ sz [pX 200, iX a1] Q := by
  unfold P_X8_readSum at hF
  refine ph_enter [pX 200, iX a1] (Qc := fun A => va_Qv (TQv Q) (CB D dA ad A) A) (by decide +kernel) (Nat.le_of_ble_eq_true rfl) ?_
  intro p e s m args below meth c A ls X hP hl hnm
  have hl : LH ad ls 3 [(0, pX 200), (1, iX a1)] := hl
  refine ph_aload_n (n := 0) X hl dX8_readSum_0 rfl rfl ?_
  refine ph_iload_n (n := 1) X hl dX8_readSum_1 rfl rfl ?_
  refine tw_callVv [iX a1] X hP (met_X8_readProduct l D dA ad hrec _ _ hF) (cwV 1 X.2.2.2.2.1 (lw_V q2077 q2079 qs58 q126 q2080) rfl rfl rfl (by decide +kernel) (by constructor <;> (dsimp only) <;> omega)) rfl hl (k8 := 0) (cs0 (k := 0)) (by decide) ⟨Nat.le_refl _, Nat.le_refl _⟩ dX8_readSum_2 rfl (fun σ16 H locs hF hP => ?_)
  obtain ⟨n9, hF⟩ := hF
  exact w_X8_readSum_5 X hrec n9 _ _ _ _ _ hF hP hl
def P_X8_readNot_96 (rs : Int32 → S → (S → Prop) → Prop) (Q : S → Prop) : Nat → Int32 → Int32 → S → Prop
  | 0, _, _, _ => False
  | n + 1, x2, x3, σ => ((x2 ≤ x3 → (Q σ)) ∧ (¬ x2 ≤ x3 → (P_X8_lay (-28) σ (fun σ1 => (P_X8_readNot_96 rs Q  n x2 (x3 + 1) σ1)))))
def P_X8_readNot_79 (rs : Int32 → S → (S → Prop) → Prop) (Q : S → Prop) (y0 : Int32) (x1 : Int32) (x2 : Int32) (σ : S) : Prop := (P_X8_stepOn σ (fun σ4 => (P_X8_readSum rs x1 σ4 (fun σ6 => (P_X8_lay y0 σ6 (fun σ8 => (∃ n9, P_X8_readNot_96 rs Q n9 x2 0 σ8)))))))
def P_X8_readNot_63 (rs : Int32 → S → (S → Prop) → Prop) (Q : S → Prop) (x1 : Int32) (x2 : Int32) (σ : S) : Prop := (P_X8_isMarked 60 σ (fun r11 σ10 => ((r11 = 0 → (P_X8_readNot_79 rs Q (-25) x1 x2 σ10)) ∧ (¬ r11 = 0 → (P_X8_readNot_79 rs Q (-24) x1 x2 σ10)))))
def P_X8_readNot_23 (rs : Int32 → S → (S → Prop) → Prop) (Q : S → Prop) (k2 : Int32 → Int32 → S → Prop) (x1 : Int32) (x2 : Int32) (σ : S) : Prop := ((¬ (σ 0 21) = 0 → (k2 x1 (x2 + 1) σ)) ∧ ((σ 0 21) = 0 → (P_X8_stepOn σ (fun σ13 => (k2 x1 (x2 + 1) σ13)))))
def P_X8_readNot_2 (rs : Int32 → S → (S → Prop) → Prop) (Q : S → Prop) : Nat → Int32 → Int32 → S → Prop
  | 0, _, _, _ => False
  | n + 1, x1, x2, σ => (P_X8_is 29 σ (fun r17 σ16 => ((r17 = 0 → (P_X8_readSum rs x1 σ16 (fun σ18 => (P_X8_isMarked 60 σ18 (fun r21 σ20 => ((¬ r21 = 0 → (P_X8_readNot_63 rs Q x1 x2 σ20)) ∧ (r21 = 0 → (P_X8_isMarked 61 σ20 (fun r23 σ22 => ((r23 = 0 → (∃ n9, P_X8_readNot_96 rs Q n9 x2 0 σ22)) ∧ (¬ r23 = 0 → (P_X8_readNot_63 rs Q x1 x2 σ22)))))))))))) ∧ (¬ r17 = 0 → ((¬ x2 = 6 → (P_X8_readNot_23 rs Q (fun z0 z1 z2 => P_X8_readNot_2 rs Q  n z0 z1 z2) x1 x2 σ16)) ∧ (x2 = 6 → (P_X8_wrong 2 σ16 (fun σ26 => (P_X8_readNot_23 rs Q (fun z0 z1 z2 => P_X8_readNot_2 rs Q  n z0 z1 z2) x1 x2 σ26)))))))))
def P_X8_readNot (rs : Int32 → S → (S → Prop) → Prop) (a1 : Int32) (σ : S) (Q : S → Prop) : Prop := (∃ n9, P_X8_readNot_2 rs Q n9 a1 0 σ)
set_option maxHeartbeats 2000000 in
theorem w_X8_readNot_96 {rs : Int32 → S → (S → Prop) → Prop} {F L : Nat} (X : CX p s m args c meth cX8_readNot 4 none RX8 D dA ad A) (hrec : ∀ (σ : S) (sz : Nat) (a0 : Int32) (Q : S → Prop), rs a0 σ Q → CTv l yX8_readExpression cX8_readExpression 3 ({ frames := F, cells := 0, slots := 0, locals := L } : Room) D dA ad σ sz [pX 200, iX a0] Q) {Q : S → Prop} : ∀ (n : Nat) (x2 : Int32) (x3 : Int32) (σ : S) (H : Heap) (locs : List Loc) (ls : Array Slot), P_X8_readNot_96 rs Q n x2 x3 σ → PW D dA A s.heap ad (TH σ) H locs → LH ad ls 4 [(0, pX 200), (2, iX x2), (3, iX x3)] → WTv p l e ({ frames := F + 13, cells := 0, slots := 0, locals := L + 311 } : Room) s m args below meth c D dA ad A Q H locs (F0 m 96 ls []) := by
  intro n
  induction n with
  | zero =>
    intro x2 x3 σ H locs ls hF
    exact hF.elim
  | succ n ih =>
    intro x2 x3 σ H locs ls hF hP hl
    rw [P_X8_readNot_96] at hF
    refine ph_iload_n (n := 2) X hl dX8_readNot_96 rfl rfl ?_
    refine ph_iload_n (n := 1) X hl dX8_readNot_97 rfl rfl ?_
    refine lv_icmp_ge (tgt := 113) X.1 X.2.1 dX8_readNot_98 (by decide) (fun c3 => ?_) (fun c3 => ?_)
    · have hF := hF.1 c3
      exact tw_vret X hP hF dX8_readNot_113
    · have hF := hF.2 c3
      refine ph_aload_n (n := 0) X hl dX8_readNot_101 rfl rfl ?_
      refine lv_bipush (v := (-28)) X.1 X.2.1 dX8_readNot_102 (by decide) ?_
      refine tw_callVv [iX (-28)] X hP (met_X8_lay l D dA ad _ _ hF) (cwV 1 X.2.2.2.2.1 (lw_V q2085 q2087 qs60 q126 q2088) rfl rfl rfl (by decide +kernel) (by constructor <;> (dsimp only) <;> omega)) rfl hl (k8 := 0) (cs0 (k := 0)) (by decide) ⟨Nat.le_refl _, Nat.le_refl _⟩ dX8_readNot_104 rfl (fun σ1 H locs hF hP => ?_)
      refine ph_iinc (v := x3 + 1) (k := 2) X hl dX8_readNot_107 rfl rfl (by decide) rfl (fun ls hl => ?_)
      refine lv_goto (tgt := 96) X.1 X.2.1 dX8_readNot_110 (by decide) ?_
      exact ih _ _ _ _ _ _ hF hP (lh_sub hl [1, 2, 0] rfl)
set_option maxHeartbeats 2000000 in
theorem w_X8_readNot_79 {rs : Int32 → S → (S → Prop) → Prop} {F L : Nat} (X : CX p s m args c meth cX8_readNot 4 none RX8 D dA ad A) (hrec : ∀ (σ : S) (sz : Nat) (a0 : Int32) (Q : S → Prop), rs a0 σ Q → CTv l yX8_readExpression cX8_readExpression 3 ({ frames := F, cells := 0, slots := 0, locals := L } : Room) D dA ad σ sz [pX 200, iX a0] Q) {Q : S → Prop} : ∀ (y0 : Int32) (x1 : Int32) (x2 : Int32) (σ : S) (H : Heap) (locs : List Loc) (ls : Array Slot), P_X8_readNot_79 rs Q y0 x1 x2 σ → PW D dA A s.heap ad (TH σ) H locs → LH ad ls 4 [(0, pX 200), (1, iX x1), (2, iX x2)] → WTv p l e ({ frames := F + 13, cells := 0, slots := 0, locals := L + 311 } : Room) s m args below meth c D dA ad A Q H locs (F0 m 79 ls [.int y0]) := by
  intro y0 x1 x2 σ H locs ls hF hP hl
  unfold P_X8_readNot_79 at hF
  refine ph_istore_n X hl dX8_readNot_79 rfl (by decide) rfl (fun ls hl => ?_)
  refine ph_aload_n (n := 1) X hl dX8_readNot_80 rfl rfl ?_
  refine tw_callVv [] X hP (met_X8_stepOn l D dA ad _ _ hF) (cwV 0 X.2.2.2.2.1 (lw_V q2006 q2008 qs45 q126 q2009) rfl rfl rfl (by decide +kernel) (by constructor <;> (dsimp only) <;> omega)) rfl hl (k8 := 0) (cs0 (k := 0)) (by decide) ⟨Nat.le_refl _, Nat.le_refl _⟩ dX8_readNot_81 rfl (fun σ4 H locs hF hP => ?_)
  refine ph_aload_n (n := 1) X hl dX8_readNot_84 rfl rfl ?_
  refine ph_iload_n (n := 2) X hl dX8_readNot_85 rfl rfl ?_
  refine tw_callVv [iX x1] X hP (met_X8_readSum l D dA ad hrec _ _ hF) (cwV 1 X.2.2.2.2.1 (lw_V q2073 q2075 qs57 q126 q2076) rfl rfl rfl (by decide +kernel) (by constructor <;> (dsimp only) <;> omega)) rfl hl (k8 := 0) (cs0 (k := 0)) (by decide) ⟨Nat.le_refl _, Nat.le_refl _⟩ dX8_readNot_86 rfl (fun σ6 H locs hF hP => ?_)
  refine ph_aload_n (n := 1) X hl dX8_readNot_89 rfl rfl ?_
  refine ph_iload_n (n := 0) X hl dX8_readNot_90 rfl rfl ?_
  refine tw_callVv [iX y0] X hP (met_X8_lay l D dA ad _ _ hF) (cwV 1 X.2.2.2.2.1 (lw_V q2085 q2087 qs60 q126 q2088) rfl rfl rfl (by decide +kernel) (by constructor <;> (dsimp only) <;> omega)) rfl hl (k8 := 0) (cs0 (k := 0)) (by decide) ⟨Nat.le_refl _, Nat.le_refl _⟩ dX8_readNot_91 rfl (fun σ8 H locs hF hP => ?_)
  refine lv_iconst (v := 0) X.1 X.2.1 dX8_readNot_94 (by decide) ?_
  refine ph_istore_n X hl dX8_readNot_95 rfl (by decide) rfl (fun ls hl => ?_)
  obtain ⟨n9, hF⟩ := hF
  exact w_X8_readNot_96 X hrec n9 _ _ _ _ _ _ hF hP (lh_sub hl [1, 3, 0] rfl)
set_option maxHeartbeats 2000000 in
theorem w_X8_readNot_63 {rs : Int32 → S → (S → Prop) → Prop} {F L : Nat} (X : CX p s m args c meth cX8_readNot 4 none RX8 D dA ad A) (hrec : ∀ (σ : S) (sz : Nat) (a0 : Int32) (Q : S → Prop), rs a0 σ Q → CTv l yX8_readExpression cX8_readExpression 3 ({ frames := F, cells := 0, slots := 0, locals := L } : Room) D dA ad σ sz [pX 200, iX a0] Q) {Q : S → Prop} : ∀ (x1 : Int32) (x2 : Int32) (σ : S) (H : Heap) (locs : List Loc) (ls : Array Slot), P_X8_readNot_63 rs Q x1 x2 σ → PW D dA A s.heap ad (TH σ) H locs → LH ad ls 4 [(0, pX 200), (1, iX x1), (2, iX x2)] → WTv p l e ({ frames := F + 13, cells := 0, slots := 0, locals := L + 311 } : Room) s m args below meth c D dA ad A Q H locs (F0 m 63 ls []) := by
  intro x1 x2 σ H locs ls hF hP hl
  unfold P_X8_readNot_63 at hF
  refine ph_aload_n (n := 0) X hl dX8_readNot_63 rfl rfl ?_
  refine lv_bipush (v := 60) X.1 X.2.1 dX8_readNot_64 (by decide) ?_
  refine tw_callVi [iX 60] X hP (met_X8_isMarked l D dA ad _ _ hF) (cwV 1 X.2.2.2.2.1 (lw_V q2060 q2062 qs54 q126 q2063) rfl rfl rfl (by decide +kernel) (by constructor <;> (dsimp only) <;> omega)) rfl hl (k8 := 0) (cs0 (k := 0)) (by decide) ⟨Nat.le_refl _, Nat.le_refl _⟩ dX8_readNot_66 rfl (fun r11 σ10 H locs hF hP => ?_)
  refine lv_if_eq (tgt := 77) X.1 X.2.1 dX8_readNot_69 (by decide) (fun c12 => ?_) (fun c12 => ?_)
  · have hF := hF.1 c12
    refine lv_bipush (v := (-25)) X.1 X.2.1 dX8_readNot_77 (by decide) ?_
    exact w_X8_readNot_79 X hrec _ _ _ _ _ _ _ hF hP hl
  · have hF := hF.2 c12
    refine lv_bipush (v := (-24)) X.1 X.2.1 dX8_readNot_72 (by decide) ?_
    refine lv_goto (tgt := 79) X.1 X.2.1 dX8_readNot_74 (by decide) ?_
    exact w_X8_readNot_79 X hrec _ _ _ _ _ _ _ hF hP hl
set_option maxHeartbeats 2000000 in
theorem w_X8_readNot_23 {rs : Int32 → S → (S → Prop) → Prop} {F L : Nat} (X : CX p s m args c meth cX8_readNot 4 none RX8 D dA ad A) (hrec : ∀ (σ : S) (sz : Nat) (a0 : Int32) (Q : S → Prop), rs a0 σ Q → CTv l yX8_readExpression cX8_readExpression 3 ({ frames := F, cells := 0, slots := 0, locals := L } : Room) D dA ad σ sz [pX 200, iX a0] Q) {Q : S → Prop} {k2 : Int32 → Int32 → S → Prop} (hk2 : ∀ (x1 : Int32) (x2 : Int32) (σ : S) (H : Heap) (locs : List Loc) (ls : Array Slot), k2 x1 x2 σ → PW D dA A s.heap ad (TH σ) H locs → LH ad ls 4 [(0, pX 200), (1, iX x1), (2, iX x2)] → WTv p l e ({ frames := F + 13, cells := 0, slots := 0, locals := L + 311 } : Room) s m args below meth c D dA ad A Q H locs (F0 m 2 ls [])) : ∀ (x1 : Int32) (x2 : Int32) (σ : S) (H : Heap) (locs : List Loc) (ls : Array Slot), P_X8_readNot_23 rs Q k2 x1 x2 σ → PW D dA A s.heap ad (TH σ) H locs → LH ad ls 4 [(0, pX 200), (1, iX x1), (2, iX x2)] → WTv p l e ({ frames := F + 13, cells := 0, slots := 0, locals := L + 311 } : Room) s m args below meth c D dA ad A Q H locs (F0 m 23 ls []) := by
  intro x1 x2 σ H locs ls hF hP hl
  unfold P_X8_readNot_23 at hF
  refine ph_iinc (v := x2 + 1) (k := 2) X hl dX8_readNot_23 rfl rfl (by decide) rfl (fun ls hl => ?_)
  refine ph_aload_n (n := 1) X hl dX8_readNot_26 rfl rfl ?_
  refine tw_geti 21 X hP q1791 dX8_readNot_27 ?_
  refine lv_if_ne (tgt := 2) X.1 X.2.1 dX8_readNot_30 (by decide) (fun c15 => ?_) (fun c15 => ?_)
  · have hF := hF.1 c15
    exact hk2 _ _ _ _ _ _ hF hP (lh_sub hl [1, 2, 0] rfl)
  · have hF := hF.2 c15
    refine ph_aload_n (n := 1) X hl dX8_readNot_33 rfl rfl ?_
    refine tw_callVv [] X hP (met_X8_stepOn l D dA ad _ _ hF) (cwV 0 X.2.2.2.2.1 (lw_V q2006 q2008 qs45 q126 q2009) rfl rfl rfl (by decide +kernel) (by constructor <;> (dsimp only) <;> omega)) rfl hl (k8 := 0) (cs0 (k := 0)) (by decide) ⟨Nat.le_refl _, Nat.le_refl _⟩ dX8_readNot_34 rfl (fun σ13 H locs hF hP => ?_)
    refine lv_goto (tgt := 2) X.1 X.2.1 dX8_readNot_37 (by decide) ?_
    exact hk2 _ _ _ _ _ _ hF hP (lh_sub hl [1, 2, 0] rfl)
set_option maxHeartbeats 2000000 in
theorem w_X8_readNot_2 {rs : Int32 → S → (S → Prop) → Prop} {F L : Nat} (X : CX p s m args c meth cX8_readNot 4 none RX8 D dA ad A) (hrec : ∀ (σ : S) (sz : Nat) (a0 : Int32) (Q : S → Prop), rs a0 σ Q → CTv l yX8_readExpression cX8_readExpression 3 ({ frames := F, cells := 0, slots := 0, locals := L } : Room) D dA ad σ sz [pX 200, iX a0] Q) {Q : S → Prop} : ∀ (n : Nat) (x1 : Int32) (x2 : Int32) (σ : S) (H : Heap) (locs : List Loc) (ls : Array Slot), P_X8_readNot_2 rs Q n x1 x2 σ → PW D dA A s.heap ad (TH σ) H locs → LH ad ls 4 [(0, pX 200), (1, iX x1), (2, iX x2)] → WTv p l e ({ frames := F + 13, cells := 0, slots := 0, locals := L + 311 } : Room) s m args below meth c D dA ad A Q H locs (F0 m 2 ls []) := by
  intro n
  induction n with
  | zero =>
    intro x1 x2 σ H locs ls hF
    exact hF.elim
  | succ n ih =>
    intro x1 x2 σ H locs ls hF hP hl
    rw [P_X8_readNot_2] at hF
    refine ph_aload_n (n := 0) X hl dX8_readNot_2 rfl rfl ?_
    refine ph_ldcSw (i := 14) (tx := "not") X (List.mem_of_getElem? (i := 15) rfl) dX8_readNot_3 ?_
    refine tw_callVi [pX 29] X hP (met_X8_is l D dA ad _ _ hF) (cwV 1 X.2.2.2.2.1 (lw_V q2030 q2032 qs48 q126 q2033) rfl rfl rfl (by decide +kernel) (by constructor <;> (dsimp only) <;> omega)) rfl hl (k8 := 0) (cs0 (k := 0)) (by decide) ⟨Nat.le_refl _, Nat.le_refl _⟩ dX8_readNot_6 rfl (fun r17 σ16 H locs hF hP => ?_)
    refine lv_if_eq (tgt := 40) X.1 X.2.1 dX8_readNot_9 (by decide) (fun c29 => ?_) (fun c29 => ?_)
    · have hF := hF.1 c29
      refine ph_aload_n (n := 0) X hl dX8_readNot_40 rfl rfl ?_
      refine ph_iload_n (n := 1) X hl dX8_readNot_41 rfl rfl ?_
      refine tw_callVv [iX x1] X hP (met_X8_readSum l D dA ad hrec _ _ hF) (cwV 1 X.2.2.2.2.1 (lw_V q2073 q2075 qs57 q126 q2076) rfl rfl rfl (by decide +kernel) (by constructor <;> (dsimp only) <;> omega)) rfl hl (k8 := 0) (cs0 (k := 0)) (by decide) ⟨Nat.le_refl _, Nat.le_refl _⟩ dX8_readNot_42 rfl (fun σ18 H locs hF hP => ?_)
      refine ph_aload_n (n := 0) X hl dX8_readNot_45 rfl rfl ?_
      refine lv_bipush (v := 60) X.1 X.2.1 dX8_readNot_46 (by decide) ?_
      refine tw_callVi [iX 60] X hP (met_X8_isMarked l D dA ad _ _ hF) (cwV 1 X.2.2.2.2.1 (lw_V q2060 q2062 qs54 q126 q2063) rfl rfl rfl (by decide +kernel) (by constructor <;> (dsimp only) <;> omega)) rfl hl (k8 := 0) (cs0 (k := 0)) (by decide) ⟨Nat.le_refl _, Nat.le_refl _⟩ dX8_readNot_48 rfl (fun r21 σ20 H locs hF hP => ?_)
      refine lv_if_ne (tgt := 63) X.1 X.2.1 dX8_readNot_51 (by decide) (fun c25 => ?_) (fun c25 => ?_)
      · have hF := hF.1 c25
        exact w_X8_readNot_63 X hrec _ _ _ _ _ _ hF hP hl
      · have hF := hF.2 c25
        refine ph_aload_n (n := 0) X hl dX8_readNot_54 rfl rfl ?_
        refine lv_bipush (v := 61) X.1 X.2.1 dX8_readNot_55 (by decide) ?_
        refine tw_callVi [iX 61] X hP (met_X8_isMarked l D dA ad _ _ hF) (cwV 1 X.2.2.2.2.1 (lw_V q2060 q2062 qs54 q126 q2063) rfl rfl rfl (by decide +kernel) (by constructor <;> (dsimp only) <;> omega)) rfl hl (k8 := 0) (cs0 (k := 0)) (by decide) ⟨Nat.le_refl _, Nat.le_refl _⟩ dX8_readNot_57 rfl (fun r23 σ22 H locs hF hP => ?_)
        refine lv_if_eq (tgt := 94) X.1 X.2.1 dX8_readNot_60 (by decide) (fun c24 => ?_) (fun c24 => ?_)
        · have hF := hF.1 c24
          refine lv_iconst (v := 0) X.1 X.2.1 dX8_readNot_94 (by decide) ?_
          refine ph_istore_n X hl dX8_readNot_95 rfl (by decide) rfl (fun ls hl => ?_)
          obtain ⟨n9, hF⟩ := hF
          exact w_X8_readNot_96 X hrec n9 _ _ _ _ _ _ hF hP (lh_sub hl [1, 3, 0] rfl)
        · have hF := hF.2 c24
          exact w_X8_readNot_63 X hrec _ _ _ _ _ _ hF hP hl
    · have hF := hF.2 c29
      refine ph_iload_n (n := 2) X hl dX8_readNot_12 rfl rfl ?_
      refine lv_bipush (v := 6) X.1 X.2.1 dX8_readNot_13 (by decide) ?_
      refine lv_icmp_ne (tgt := 23) X.1 X.2.1 dX8_readNot_15 (by decide) (fun c28 => ?_) (fun c28 => ?_)
      · have hF := hF.1 c28
        exact w_X8_readNot_23 X hrec ih _ _ _ _ _ _ hF hP hl
      · have hF := hF.2 c28
        refine ph_aload_n (n := 0) X hl dX8_readNot_18 rfl rfl ?_
        refine lv_iconst (v := 2) X.1 X.2.1 dX8_readNot_19 (by decide) ?_
        refine tw_callVv [iX 2] X hP (met_X8_wrong l D dA ad _ _ hF) (cwV 1 X.2.2.2.2.1 (lw_V q2044 q2046 qs50 q126 q2047) rfl rfl rfl (by decide +kernel) (by constructor <;> (dsimp only) <;> omega)) rfl hl (k8 := 0) (cs0 (k := 0)) (by decide) ⟨Nat.le_refl _, Nat.le_refl _⟩ dX8_readNot_20 rfl (fun σ26 H locs hF hP => ?_)
        exact w_X8_readNot_23 X hrec ih _ _ _ _ _ _ hF hP hl
set_option maxHeartbeats 2000000 in
theorem met_X8_readNot {rs : Int32 → S → (S → Prop) → Prop} {F L : Nat} (l : Launch) (D : va_G) (dA : Nat → ClassId) (ad : Nat → Nat) (hrec : ∀ (σ : S) (sz : Nat) (a0 : Int32) (Q : S → Prop), rs a0 σ Q → CTv l yX8_readExpression cX8_readExpression 3 ({ frames := F, cells := 0, slots := 0, locals := L } : Room) D dA ad σ sz [pX 200, iX a0] Q) (σ : S) (sz : Nat) {a1 : Int32} {Q : S → Prop} (hF : P_X8_readNot rs a1 σ Q) : CTv l yX8_readNot cX8_readNot 4 ({ frames := F + 13, cells := 0, slots := 0, locals := L + 311 } : Room) D dA ad σ sz [pX 200, iX a1] Q := by
  unfold P_X8_readNot at hF
  refine ph_enter [pX 200, iX a1] (Qc := fun A => va_Qv (TQv Q) (CB D dA ad A) A) (by decide +kernel) (Nat.le_of_ble_eq_true rfl) ?_
  intro p e s m args below meth c A ls X hP hl hnm
  have hl : LH ad ls 4 [(0, pX 200), (1, iX a1)] := hl
  refine lv_iconst (v := 0) X.1 X.2.1 dX8_readNot_0 (by decide) ?_
  refine ph_istore_n X hl dX8_readNot_1 rfl (by decide) rfl (fun ls hl => ?_)
  obtain ⟨n9, hF⟩ := hF
  exact w_X8_readNot_2 X hrec n9 _ _ _ _ _ _ hF hP (lh_sub hl [1, 2, 0] rfl)
def P_X8_readAnd_5 (rs : Int32 → S → (S → Prop) → Prop) (Q : S → Prop) : Nat → Int32 → S → Prop
  | 0, _, _ => False
  | n + 1, x1, σ => (P_X8_is 27 σ (fun r2 σ1 => ((r2 = 0 → (Q σ1)) ∧ (¬ r2 = 0 → (P_X8_stepOn σ1 (fun σ3 => (P_X8_readNot rs x1 σ3 (fun σ5 => (P_X8_lay (-26) σ5 (fun σ7 => (P_X8_readAnd_5 rs Q  n x1 σ7)))))))))))
def P_X8_readAnd (rs : Int32 → S → (S → Prop) → Prop) (a1 : Int32) (σ : S) (Q : S → Prop) : Prop := (P_X8_readNot rs a1 σ (fun σ10 => (∃ n9, P_X8_readAnd_5 rs Q n9 a1 σ10)))
set_option maxHeartbeats 2000000 in
theorem w_X8_readAnd_5 {rs : Int32 → S → (S → Prop) → Prop} {F L : Nat} (X : CX p s m args c meth cX8_readAnd 2 none RX8 D dA ad A) (hrec : ∀ (σ : S) (sz : Nat) (a0 : Int32) (Q : S → Prop), rs a0 σ Q → CTv l yX8_readExpression cX8_readExpression 3 ({ frames := F, cells := 0, slots := 0, locals := L } : Room) D dA ad σ sz [pX 200, iX a0] Q) {Q : S → Prop} : ∀ (n : Nat) (x1 : Int32) (σ : S) (H : Heap) (locs : List Loc) (ls : Array Slot), P_X8_readAnd_5 rs Q n x1 σ → PW D dA A s.heap ad (TH σ) H locs → LH ad ls 2 [(0, pX 200), (1, iX x1)] → WTv p l e ({ frames := F + 14, cells := 0, slots := 0, locals := L + 334 } : Room) s m args below meth c D dA ad A Q H locs (F0 m 5 ls []) := by
  intro n
  induction n with
  | zero =>
    intro x1 σ H locs ls hF
    exact hF.elim
  | succ n ih =>
    intro x1 σ H locs ls hF hP hl
    rw [P_X8_readAnd_5] at hF
    refine ph_aload_n (n := 0) X hl dX8_readAnd_5 rfl rfl ?_
    refine ph_ldcSw (i := 13) (tx := "and") X (List.mem_of_getElem? (i := 16) rfl) dX8_readAnd_6 ?_
    refine tw_callVi [pX 27] X hP (met_X8_is l D dA ad _ _ hF) (cwV 1 X.2.2.2.2.1 (lw_V q2030 q2032 qs48 q126 q2033) rfl rfl rfl (by decide +kernel) (by constructor <;> (dsimp only) <;> omega)) rfl hl (k8 := 0) (cs0 (k := 0)) (by decide) ⟨Nat.le_refl _, Nat.le_refl _⟩ dX8_readAnd_9 rfl (fun r2 σ1 H locs hF hP => ?_)
    refine lv_if_eq (tgt := 33) X.1 X.2.1 dX8_readAnd_12 (by decide) (fun c9 => ?_) (fun c9 => ?_)
    · have hF := hF.1 c9
      exact tw_vret X hP hF dX8_readAnd_33
    · have hF := hF.2 c9
      refine ph_aload_n (n := 0) X hl dX8_readAnd_15 rfl rfl ?_
      refine tw_callVv [] X hP (met_X8_stepOn l D dA ad _ _ hF) (cwV 0 X.2.2.2.2.1 (lw_V q2006 q2008 qs45 q126 q2009) rfl rfl rfl (by decide +kernel) (by constructor <;> (dsimp only) <;> omega)) rfl hl (k8 := 0) (cs0 (k := 0)) (by decide) ⟨Nat.le_refl _, Nat.le_refl _⟩ dX8_readAnd_16 rfl (fun σ3 H locs hF hP => ?_)
      refine ph_aload_n (n := 0) X hl dX8_readAnd_19 rfl rfl ?_
      refine ph_iload_n (n := 1) X hl dX8_readAnd_20 rfl rfl ?_
      refine tw_callVv [iX x1] X hP (met_X8_readNot l D dA ad hrec _ _ hF) (cwV 1 X.2.2.2.2.1 (lw_V q2068 q2070 qs56 q126 q2071) rfl rfl rfl (by decide +kernel) (by constructor <;> (dsimp only) <;> omega)) rfl hl (k8 := 0) (cs0 (k := 0)) (by decide) ⟨Nat.le_refl _, Nat.le_refl _⟩ dX8_readAnd_21 rfl (fun σ5 H locs hF hP => ?_)
      refine ph_aload_n (n := 0) X hl dX8_readAnd_24 rfl rfl ?_
      refine lv_bipush (v := (-26)) X.1 X.2.1 dX8_readAnd_25 (by decide) ?_
      refine tw_callVv [iX (-26)] X hP (met_X8_lay l D dA ad _ _ hF) (cwV 1 X.2.2.2.2.1 (lw_V q2085 q2087 qs60 q126 q2088) rfl rfl rfl (by decide +kernel) (by constructor <;> (dsimp only) <;> omega)) rfl hl (k8 := 0) (cs0 (k := 0)) (by decide) ⟨Nat.le_refl _, Nat.le_refl _⟩ dX8_readAnd_27 rfl (fun σ7 H locs hF hP => ?_)
      refine lv_goto (tgt := 5) X.1 X.2.1 dX8_readAnd_30 (by decide) ?_
      exact ih _ _ _ _ _ hF hP hl
set_option maxHeartbeats 2000000 in
theorem met_X8_readAnd {rs : Int32 → S → (S → Prop) → Prop} {F L : Nat} (l : Launch) (D : va_G) (dA : Nat → ClassId) (ad : Nat → Nat) (hrec : ∀ (σ : S) (sz : Nat) (a0 : Int32) (Q : S → Prop), rs a0 σ Q → CTv l yX8_readExpression cX8_readExpression 3 ({ frames := F, cells := 0, slots := 0, locals := L } : Room) D dA ad σ sz [pX 200, iX a0] Q) (σ : S) (sz : Nat) {a1 : Int32} {Q : S → Prop} (hF : P_X8_readAnd rs a1 σ Q) : CTv l yX8_readAnd cX8_readAnd 2 ({ frames := F + 14, cells := 0, slots := 0, locals := L + 334 } : Room) D dA ad σ sz [pX 200, iX a1] Q := by
  unfold P_X8_readAnd at hF
  refine ph_enter [pX 200, iX a1] (Qc := fun A => va_Qv (TQv Q) (CB D dA ad A) A) (by decide +kernel) (Nat.le_of_ble_eq_true rfl) ?_
  intro p e s m args below meth c A ls X hP hl hnm
  have hl : LH ad ls 2 [(0, pX 200), (1, iX a1)] := hl
  refine ph_aload_n (n := 0) X hl dX8_readAnd_0 rfl rfl ?_
  refine ph_iload_n (n := 1) X hl dX8_readAnd_1 rfl rfl ?_
  refine tw_callVv [iX a1] X hP (met_X8_readNot l D dA ad hrec _ _ hF) (cwV 1 X.2.2.2.2.1 (lw_V q2068 q2070 qs56 q126 q2071) rfl rfl rfl (by decide +kernel) (by constructor <;> (dsimp only) <;> omega)) rfl hl (k8 := 0) (cs0 (k := 0)) (by decide) ⟨Nat.le_refl _, Nat.le_refl _⟩ dX8_readAnd_2 rfl (fun σ10 H locs hF hP => ?_)
  obtain ⟨n9, hF⟩ := hF
  exact w_X8_readAnd_5 X hrec n9 _ _ _ _ _ hF hP hl
def P_X8_readExpression_67 (rs : Int32 → S → (S → Prop) → Prop) (Q : S → Prop) : Nat → Int32 → S → Prop
  | 0, _, _ => False
  | n + 1, x1, σ => (P_X8_is 25 σ (fun r2 σ1 => ((r2 = 0 → (Q σ1)) ∧ (¬ r2 = 0 → (P_X8_stepOn σ1 (fun σ3 => (P_X8_readAnd rs x1 σ3 (fun σ5 => (P_X8_lay (-27) σ5 (fun σ7 => (P_X8_readExpression_67 rs Q  n x1 σ7)))))))))))
def P_X8_readExpression_38 (rs : Int32 → S → (S → Prop) → Prop) (Q : S → Prop) (y0 : Int32) (x1 : Int32) (σ : S) : Prop := ((¬ y0 = 0 → ((¬ x1 = 6 → (P_X8_readAnd rs x1 σ (fun σ10 => (∃ n9, P_X8_readExpression_67 rs Q n9 x1 σ10)))) ∧ (x1 = 6 → (P_X8_wrong 2 σ (fun σ12 => (P_X8_readAnd rs x1 σ12 (fun σ14 => (∃ n9, P_X8_readExpression_67 rs Q n9 x1 σ14)))))))) ∧ (y0 = 0 → (P_X8_wrong 1 σ (fun σ17 => (P_X8_readAnd rs x1 σ17 (fun σ19 => (∃ n9, P_X8_readExpression_67 rs Q n9 x1 σ19)))))))
def P_X8_readExpression_33 (rs : Int32 → S → (S → Prop) → Prop) (Q : S → Prop) (x1 : Int32) (σ : S) : Prop := (P_X8_readExpression_38 rs Q 1 x1 σ)
def P_X8_readExpression (rs : Int32 → S → (S → Prop) → Prop) (a1 : Int32) (σ : S) (Q : S → Prop) : Prop := (((σ 0 21) = 0 → (((σ 0 17) = 2 → (P_X8_readExpression_33 rs Q a1 σ)) ∧ (¬ (σ 0 17) = 2 → (((σ 0 17) = 1 → (P_X8_readExpression_33 rs Q a1 σ)) ∧ (¬ (σ 0 17) = 1 → (P_X8_isMarked 40 σ (fun r23 σ22 => ((r23 = 0 → (P_X8_readExpression_38 rs Q 0 a1 σ22)) ∧ (¬ r23 = 0 → (P_X8_readExpression_33 rs Q a1 σ22)))))))))) ∧ (¬ (σ 0 21) = 0 → (Q σ)))
set_option maxHeartbeats 2000000 in
theorem w_X8_readExpression_67 {rs : Int32 → S → (S → Prop) → Prop} {F L : Nat} (X : CX p s m args c meth cX8_readExpression 3 none RX8 D dA ad A) (hrec : ∀ (σ : S) (sz : Nat) (a0 : Int32) (Q : S → Prop), rs a0 σ Q → CTv l yX8_readExpression cX8_readExpression 3 ({ frames := F, cells := 0, slots := 0, locals := L } : Room) D dA ad σ sz [pX 200, iX a0] Q) {Q : S → Prop} : ∀ (n : Nat) (x1 : Int32) (σ : S) (H : Heap) (locs : List Loc) (ls : Array Slot), P_X8_readExpression_67 rs Q n x1 σ → PW D dA A s.heap ad (TH σ) H locs → LH ad ls 3 [(0, pX 200), (1, iX x1)] → WTv p l e ({ frames := F + 15, cells := 0, slots := 0, locals := L + 355 } : Room) s m args below meth c D dA ad A Q H locs (F0 m 67 ls []) := by
  intro n
  induction n with
  | zero =>
    intro x1 σ H locs ls hF
    exact hF.elim
  | succ n ih =>
    intro x1 σ H locs ls hF hP hl
    rw [P_X8_readExpression_67] at hF
    refine ph_aload_n (n := 0) X hl dX8_readExpression_67 rfl rfl ?_
    refine ph_ldcSw (i := 12) (tx := "or") X (List.mem_of_getElem? (i := 17) rfl) dX8_readExpression_68 ?_
    refine tw_callVi [pX 25] X hP (met_X8_is l D dA ad _ _ hF) (cwV 1 X.2.2.2.2.1 (lw_V q2030 q2032 qs48 q126 q2033) rfl rfl rfl (by decide +kernel) (by constructor <;> (dsimp only) <;> omega)) rfl hl (k8 := 0) (cs0 (k := 0)) (by decide) ⟨Nat.le_refl _, Nat.le_refl _⟩ dX8_readExpression_71 rfl (fun r2 σ1 H locs hF hP => ?_)
    refine lv_if_eq (tgt := 95) X.1 X.2.1 dX8_readExpression_74 (by decide) (fun c9 => ?_) (fun c9 => ?_)
    · have hF := hF.1 c9
      exact tw_vret X hP hF dX8_readExpression_95
    · have hF := hF.2 c9
      refine ph_aload_n (n := 0) X hl dX8_readExpression_77 rfl rfl ?_
      refine tw_callVv [] X hP (met_X8_stepOn l D dA ad _ _ hF) (cwV 0 X.2.2.2.2.1 (lw_V q2006 q2008 qs45 q126 q2009) rfl rfl rfl (by decide +kernel) (by constructor <;> (dsimp only) <;> omega)) rfl hl (k8 := 0) (cs0 (k := 0)) (by decide) ⟨Nat.le_refl _, Nat.le_refl _⟩ dX8_readExpression_78 rfl (fun σ3 H locs hF hP => ?_)
      refine ph_aload_n (n := 0) X hl dX8_readExpression_81 rfl rfl ?_
      refine ph_iload_n (n := 1) X hl dX8_readExpression_82 rfl rfl ?_
      refine tw_callVv [iX x1] X hP (met_X8_readAnd l D dA ad hrec _ _ hF) (cwV 1 X.2.2.2.2.1 (lw_V q2064 q2066 qs55 q126 q2067) rfl rfl rfl (by decide +kernel) (by constructor <;> (dsimp only) <;> omega)) rfl hl (k8 := 0) (cs0 (k := 0)) (by decide) ⟨Nat.le_refl _, Nat.le_refl _⟩ dX8_readExpression_83 rfl (fun σ5 H locs hF hP => ?_)
      refine ph_aload_n (n := 0) X hl dX8_readExpression_86 rfl rfl ?_
      refine lv_bipush (v := (-27)) X.1 X.2.1 dX8_readExpression_87 (by decide) ?_
      refine tw_callVv [iX (-27)] X hP (met_X8_lay l D dA ad _ _ hF) (cwV 1 X.2.2.2.2.1 (lw_V q2085 q2087 qs60 q126 q2088) rfl rfl rfl (by decide +kernel) (by constructor <;> (dsimp only) <;> omega)) rfl hl (k8 := 0) (cs0 (k := 0)) (by decide) ⟨Nat.le_refl _, Nat.le_refl _⟩ dX8_readExpression_89 rfl (fun σ7 H locs hF hP => ?_)
      refine lv_goto (tgt := 67) X.1 X.2.1 dX8_readExpression_92 (by decide) ?_
      exact ih _ _ _ _ _ hF hP hl
set_option maxHeartbeats 2000000 in
theorem w_X8_readExpression_38 {rs : Int32 → S → (S → Prop) → Prop} {F L : Nat} (X : CX p s m args c meth cX8_readExpression 3 none RX8 D dA ad A) (hrec : ∀ (σ : S) (sz : Nat) (a0 : Int32) (Q : S → Prop), rs a0 σ Q → CTv l yX8_readExpression cX8_readExpression 3 ({ frames := F, cells := 0, slots := 0, locals := L } : Room) D dA ad σ sz [pX 200, iX a0] Q) {Q : S → Prop} : ∀ (y0 : Int32) (x1 : Int32) (σ : S) (H : Heap) (locs : List Loc) (ls : Array Slot), P_X8_readExpression_38 rs Q y0 x1 σ → PW D dA A s.heap ad (TH σ) H locs → LH ad ls 3 [(0, pX 200), (1, iX x1)] → WTv p l e ({ frames := F + 15, cells := 0, slots := 0, locals := L + 355 } : Room) s m args below meth c D dA ad A Q H locs (F0 m 38 ls [.int y0]) := by
  intro y0 x1 σ H locs ls hF hP hl
  unfold P_X8_readExpression_38 at hF
  refine ph_istore_n X hl dX8_readExpression_38 rfl (by decide) rfl (fun ls hl => ?_)
  refine ph_iload_n (n := 0) X hl dX8_readExpression_39 rfl rfl ?_
  refine lv_if_ne (tgt := 51) X.1 X.2.1 dX8_readExpression_40 (by decide) (fun c21 => ?_) (fun c21 => ?_)
  · have hF := hF.1 c21
    refine ph_iload_n (n := 2) X hl dX8_readExpression_51 rfl rfl ?_
    refine lv_bipush (v := 6) X.1 X.2.1 dX8_readExpression_52 (by decide) ?_
    refine lv_icmp_ne (tgt := 62) X.1 X.2.1 dX8_readExpression_54 (by decide) (fun c16 => ?_) (fun c16 => ?_)
    · have hF := hF.1 c16
      refine ph_aload_n (n := 1) X hl dX8_readExpression_62 rfl rfl ?_
      refine ph_iload_n (n := 2) X hl dX8_readExpression_63 rfl rfl ?_
      refine tw_callVv [iX x1] X hP (met_X8_readAnd l D dA ad hrec _ _ hF) (cwV 1 X.2.2.2.2.1 (lw_V q2064 q2066 qs55 q126 q2067) rfl rfl rfl (by decide +kernel) (by constructor <;> (dsimp only) <;> omega)) rfl hl (k8 := 0) (cs0 (k := 0)) (by decide) ⟨Nat.le_refl _, Nat.le_refl _⟩ dX8_readExpression_64 rfl (fun σ10 H locs hF hP => ?_)
      obtain ⟨n9, hF⟩ := hF
      exact w_X8_readExpression_67 X hrec n9 _ _ _ _ _ hF hP (lh_sub hl [1, 2] rfl)
    · have hF := hF.2 c16
      refine ph_aload_n (n := 1) X hl dX8_readExpression_57 rfl rfl ?_
      refine lv_iconst (v := 2) X.1 X.2.1 dX8_readExpression_58 (by decide) ?_
      refine tw_callVv [iX 2] X hP (met_X8_wrong l D dA ad _ _ hF) (cwV 1 X.2.2.2.2.1 (lw_V q2044 q2046 qs50 q126 q2047) rfl rfl rfl (by decide +kernel) (by constructor <;> (dsimp only) <;> omega)) rfl hl (k8 := 0) (cs0 (k := 0)) (by decide) ⟨Nat.le_refl _, Nat.le_refl _⟩ dX8_readExpression_59 rfl (fun σ12 H locs hF hP => ?_)
      refine ph_aload_n (n := 1) X hl dX8_readExpression_62 rfl rfl ?_
      refine ph_iload_n (n := 2) X hl dX8_readExpression_63 rfl rfl ?_
      refine tw_callVv [iX x1] X hP (met_X8_readAnd l D dA ad hrec _ _ hF) (cwV 1 X.2.2.2.2.1 (lw_V q2064 q2066 qs55 q126 q2067) rfl rfl rfl (by decide +kernel) (by constructor <;> (dsimp only) <;> omega)) rfl hl (k8 := 0) (cs0 (k := 0)) (by decide) ⟨Nat.le_refl _, Nat.le_refl _⟩ dX8_readExpression_64 rfl (fun σ14 H locs hF hP => ?_)
      obtain ⟨n9, hF⟩ := hF
      exact w_X8_readExpression_67 X hrec n9 _ _ _ _ _ hF hP (lh_sub hl [1, 2] rfl)
  · have hF := hF.2 c21
    refine ph_aload_n (n := 1) X hl dX8_readExpression_43 rfl rfl ?_
    refine lv_iconst (v := 1) X.1 X.2.1 dX8_readExpression_44 (by decide) ?_
    refine tw_callVv [iX 1] X hP (met_X8_wrong l D dA ad _ _ hF) (cwV 1 X.2.2.2.2.1 (lw_V q2044 q2046 qs50 q126 q2047) rfl rfl rfl (by decide +kernel) (by constructor <;> (dsimp only) <;> omega)) rfl hl (k8 := 0) (cs0 (k := 0)) (by decide) ⟨Nat.le_refl _, Nat.le_refl _⟩ dX8_readExpression_45 rfl (fun σ17 H locs hF hP => ?_)
    refine lv_goto (tgt := 62) X.1 X.2.1 dX8_readExpression_48 (by decide) ?_
    refine ph_aload_n (n := 1) X hl dX8_readExpression_62 rfl rfl ?_
    refine ph_iload_n (n := 2) X hl dX8_readExpression_63 rfl rfl ?_
    refine tw_callVv [iX x1] X hP (met_X8_readAnd l D dA ad hrec _ _ hF) (cwV 1 X.2.2.2.2.1 (lw_V q2064 q2066 qs55 q126 q2067) rfl rfl rfl (by decide +kernel) (by constructor <;> (dsimp only) <;> omega)) rfl hl (k8 := 0) (cs0 (k := 0)) (by decide) ⟨Nat.le_refl _, Nat.le_refl _⟩ dX8_readExpression_64 rfl (fun σ19 H locs hF hP => ?_)
    obtain ⟨n9, hF⟩ := hF
    exact w_X8_readExpression_67 X hrec n9 _ _ _ _ _ hF hP (lh_sub hl [1, 2] rfl)
set_option maxHeartbeats 2000000 in
theorem w_X8_readExpression_33 {rs : Int32 → S → (S → Prop) → Prop} {F L : Nat} (X : CX p s m args c meth cX8_readExpression 3 none RX8 D dA ad A) (hrec : ∀ (σ : S) (sz : Nat) (a0 : Int32) (Q : S → Prop), rs a0 σ Q → CTv l yX8_readExpression cX8_readExpression 3 ({ frames := F, cells := 0, slots := 0, locals := L } : Room) D dA ad σ sz [pX 200, iX a0] Q) {Q : S → Prop} : ∀ (x1 : Int32) (σ : S) (H : Heap) (locs : List Loc) (ls : Array Slot), P_X8_readExpression_33 rs Q x1 σ → PW D dA A s.heap ad (TH σ) H locs → LH ad ls 3 [(0, pX 200), (1, iX x1)] → WTv p l e ({ frames := F + 15, cells := 0, slots := 0, locals := L + 355 } : Room) s m args below meth c D dA ad A Q H locs (F0 m 33 ls []) := by
  intro x1 σ H locs ls hF hP hl
  unfold P_X8_readExpression_33 at hF
  refine lv_iconst (v := 1) X.1 X.2.1 dX8_readExpression_33 (by decide) ?_
  refine lv_goto (tgt := 38) X.1 X.2.1 dX8_readExpression_34 (by decide) ?_
  exact w_X8_readExpression_38 X hrec _ _ _ _ _ _ hF hP hl
set_option maxHeartbeats 2000000 in
theorem met_X8_readExpression {rs : Int32 → S → (S → Prop) → Prop} {F L : Nat} (l : Launch) (D : va_G) (dA : Nat → ClassId) (ad : Nat → Nat) (hrec : ∀ (σ : S) (sz : Nat) (a0 : Int32) (Q : S → Prop), rs a0 σ Q → CTv l yX8_readExpression cX8_readExpression 3 ({ frames := F, cells := 0, slots := 0, locals := L } : Room) D dA ad σ sz [pX 200, iX a0] Q) (σ : S) (sz : Nat) {a1 : Int32} {Q : S → Prop} (hF : P_X8_readExpression rs a1 σ Q) : CTv l yX8_readExpression cX8_readExpression 3 ({ frames := F + 15, cells := 0, slots := 0, locals := L + 355 } : Room) D dA ad σ sz [pX 200, iX a1] Q := by
  unfold P_X8_readExpression at hF
  refine ph_enter [pX 200, iX a1] (Qc := fun A => va_Qv (TQv Q) (CB D dA ad A) A) (by decide +kernel) (Nat.le_of_ble_eq_true rfl) ?_
  intro p e s m args below meth c A ls X hP hl hnm
  have hl : LH ad ls 3 [(0, pX 200), (1, iX a1)] := hl
  refine ph_aload_n (n := 0) X hl dX8_readExpression_0 rfl rfl ?_
  refine tw_geti 21 X hP q1791 dX8_readExpression_1 ?_
  refine lv_if_eq (tgt := 8) X.1 X.2.1 dX8_readExpression_4 (by decide) (fun c27 => ?_) (fun c27 => ?_)
  · have hF := hF.1 c27
    refine ph_aload_n (n := 0) X hl dX8_readExpression_8 rfl rfl ?_
    refine tw_geti 17 X hP q1787 dX8_readExpression_9 ?_
    refine lv_iconst (v := 2) X.1 X.2.1 dX8_readExpression_12 (by decide) ?_
    refine lv_icmp_eq (tgt := 33) X.1 X.2.1 dX8_readExpression_13 (by decide) (fun c26 => ?_) (fun c26 => ?_)
    · have hF := hF.1 c26
      exact w_X8_readExpression_33 X hrec _ _ _ _ _ hF hP hl
    · have hF := hF.2 c26
      refine ph_aload_n (n := 0) X hl dX8_readExpression_16 rfl rfl ?_
      refine tw_geti 17 X hP q1787 dX8_readExpression_17 ?_
      refine lv_iconst (v := 1) X.1 X.2.1 dX8_readExpression_20 (by decide) ?_
      refine lv_icmp_eq (tgt := 33) X.1 X.2.1 dX8_readExpression_21 (by decide) (fun c25 => ?_) (fun c25 => ?_)
      · have hF := hF.1 c25
        exact w_X8_readExpression_33 X hrec _ _ _ _ _ hF hP hl
      · have hF := hF.2 c25
        refine ph_aload_n (n := 0) X hl dX8_readExpression_24 rfl rfl ?_
        refine lv_bipush (v := 40) X.1 X.2.1 dX8_readExpression_25 (by decide) ?_
        refine tw_callVi [iX 40] X hP (met_X8_isMarked l D dA ad _ _ hF) (cwV 1 X.2.2.2.2.1 (lw_V q2060 q2062 qs54 q126 q2063) rfl rfl rfl (by decide +kernel) (by constructor <;> (dsimp only) <;> omega)) rfl hl (k8 := 0) (cs0 (k := 0)) (by decide) ⟨Nat.le_refl _, Nat.le_refl _⟩ dX8_readExpression_27 rfl (fun r23 σ22 H locs hF hP => ?_)
        refine lv_if_eq (tgt := 37) X.1 X.2.1 dX8_readExpression_30 (by decide) (fun c24 => ?_) (fun c24 => ?_)
        · have hF := hF.1 c24
          refine lv_iconst (v := 0) X.1 X.2.1 dX8_readExpression_37 (by decide) ?_
          exact w_X8_readExpression_38 X hrec _ _ _ _ _ _ hF hP hl
        · have hF := hF.2 c24
          exact w_X8_readExpression_33 X hrec _ _ _ _ _ hF hP hl
  · have hF := hF.2 c27
    exact tw_vret X hP hF dX8_readExpression_7
def P_X8_readExpressionR : Nat → Int32 → S → (S → Prop) → Prop
  | 0, _, _, _ => False
  | d + 1, a0, σ, Q => P_X8_readExpression (P_X8_readExpressionR d) a0 σ Q
theorem met_X8_readExpressionR (l : Launch) (D : va_G) (dA : Nat → ClassId) (ad : Nat → Nat) : ∀ (d : Nat) (σ : S) (sz : Nat) (a0 : Int32) (Q : S → Prop), P_X8_readExpressionR d a0 σ Q → CTv l yX8_readExpression cX8_readExpression 3 ({ frames := 15 * d, cells := 0, slots := 0, locals := 355 * d } : Room) D dA ad σ sz [pX 200, iX a0] Q := by
  intro d
  induction d with
  | zero =>
    intro σ sz a0 Q hF
    exact hF.elim
  | succ d ih =>
    intro σ sz a0 Q hF
    exact met_X8_readExpression (rs := P_X8_readExpressionR d) (F := 15 * d) (L := 355 * d) l D dA ad ih σ sz hF

def P_X8_readLine_242 (Q : Int32 → S → Prop) (x1 : Int32) (x2 : Int32) (σ : S) : Prop := ((¬ (σ 0 21) = 0 → (P_X8_mark 59 σ (fun σ1 => (Q (x1 ||| x2) σ1)))) ∧ ((σ 0 21) = 0 → (P_X8_readNever σ (fun σ3 => (P_X8_mark 59 σ3 (fun σ5 => (Q (x1 ||| x2) σ5)))))))
def P_X8_readLine_108 (Q : Int32 → S → Prop) (x1 : Int32) (x2 : Int32) (σ : S) : Prop := ((¬ x2 = 1 → ((¬ x2 = 2 → ((¬ x2 = 4 → (P_X8_readExpressionR 8 0 σ (fun σ8 => (P_X8_mark 59 σ8 (fun σ10 => (Q (x1 ||| x2) σ10)))))) ∧ (x2 = 4 → (P_X8_readNumber 0 60 σ (fun r13 σ12 => (∀ σ14, σ14 = up2 σ12 3 12 r13 → (P_X8_mark 59 σ14 (fun σ15 => (Q (x1 ||| x2) σ15))))))))) ∧ (x2 = 2 → (P_X8_readNumber 1 600 σ (fun r19 σ18 => (∀ σ20, σ20 = up2 σ18 3 11 r19 → (P_X8_mark 59 σ20 (fun σ21 => (Q (x1 ||| x2) σ21))))))))) ∧ (x2 = 1 → (P_X8_readNumber 1 99 σ (fun r25 σ24 => (∀ σ26, σ26 = up2 σ24 3 9 r25 → (P_X8_readNumber 0 9 σ26 (fun r28 σ27 => (∀ σ29, σ29 = up2 σ27 3 10 r28 → (P_X8_mark 59 σ29 (fun σ30 => (Q (x1 ||| x2) σ30)))))))))))
def P_X8_readLine_93 (Q : Int32 → S → Prop) (x1 : Int32) (x2 : Int32) (x3 : Int32) (σ : S) : Prop := ((x2 ≤ 0 → ((x3 = (-1) → (P_X8_is 9 σ (fun r34 σ33 => ((r34 = 0 → (P_X8_is 11 σ33 (fun r36 σ35 => ((¬ r36 = 0 → (P_X8_readLine_242 Q x1 x2 σ35)) ∧ (r36 = 0 → (P_X8_wrong 1 σ35 (fun σ37 => (P_X8_readLine_242 Q x1 x2 σ37)))))))) ∧ (¬ r34 = 0 → (P_X8_readBolster σ33 (fun σ40 => (P_X8_mark 59 σ40 (fun σ42 => (Q (x1 ||| x2) σ42)))))))))) ∧ (¬ x3 = (-1) → (P_X8_readSleeper x3 σ (fun σ45 => (P_X8_mark 59 σ45 (fun σ47 => (Q (x1 ||| x2) σ47)))))))) ∧ (¬ x2 ≤ 0 → ((¬ (σ 0 21) = 0 → (P_X8_readLine_108 Q x1 x2 σ)) ∧ ((σ 0 21) = 0 → (P_X8_stepOn σ (fun σ50 => (P_X8_readLine_108 Q x1 x2 σ50)))))))
def P_X8_readLine_81 (Q : Int32 → S → Prop) (y0 : Int32) (x1 : Int32) (x2 : Int32) (σ : S) : Prop := (((x2 &&& x1) = 0 → (P_X8_readLine_93 Q x1 x2 y0 σ)) ∧ (¬ (x2 &&& x1) = 0 → (P_X8_wrong 5 σ (fun σ54 => (P_X8_readLine_93 Q x1 x2 y0 σ54)))))
def P_X8_readLine_58 (Q : Int32 → S → Prop) (y0 : Int32) (x1 : Int32) (σ : S) : Prop := (P_X8_is 19 σ (fun r58 σ57 => ((r58 = 0 → (P_X8_which 201 σ57 (fun r60 σ59 => (P_X8_readLine_81 Q r60 x1 y0 σ59)))) ∧ (¬ r58 = 0 → (P_X8_readLine_81 Q 3 x1 y0 σ57)))))
def P_X8_readLine (a1 : Int32) (σ : S) (Q : Int32 → S → Prop) : Prop := (P_X8_is 1 σ (fun r63 σ62 => ((r63 = 0 → (P_X8_is 3 σ62 (fun r65 σ64 => ((r65 = 0 → (P_X8_is 5 σ64 (fun r67 σ66 => ((r67 = 0 → (P_X8_is 7 σ66 (fun r69 σ68 => ((r69 = 0 → (P_X8_readLine_58 Q 0 a1 σ68)) ∧ (¬ r69 = 0 → (P_X8_readLine_58 Q 8 a1 σ68)))))) ∧ (¬ r67 = 0 → (P_X8_readLine_58 Q 4 a1 σ66)))))) ∧ (¬ r65 = 0 → (P_X8_readLine_58 Q 2 a1 σ64)))))) ∧ (¬ r63 = 0 → (P_X8_readLine_58 Q 1 a1 σ62)))))
set_option maxHeartbeats 2000000 in
theorem w_X8_readLine_242 (X : CX p s m args c meth cX8_readLine 4 (some .int) RX8 D dA ad A) {Q : Int32 → S → Prop} : ∀ (x1 : Int32) (x2 : Int32) (σ : S) (H : Heap) (locs : List Loc) (ls : Array Slot), P_X8_readLine_242 Q x1 x2 σ → PW D dA A s.heap ad (TH σ) H locs → LH ad ls 4 [(0, pX 200), (1, iX x1), (2, iX x2)] → WTi p l e ({ frames := 121, cells := 0, slots := 0, locals := 2862 } : Room) s m args below meth c D dA ad A Q H locs (F0 m 242 ls []) := by
  intro x1 x2 σ H locs ls hF hP hl
  unfold P_X8_readLine_242 at hF
  refine ph_aload_n (n := 0) X hl dX8_readLine_242 rfl rfl ?_
  refine tw_geti 21 X hP q1791 dX8_readLine_243 ?_
  refine lv_if_ne (tgt := 253) X.1 X.2.1 dX8_readLine_246 (by decide) (fun c7 => ?_) (fun c7 => ?_)
  · have hF := hF.1 c7
    refine ph_aload_n (n := 0) X hl dX8_readLine_253 rfl rfl ?_
    refine lv_bipush (v := 59) X.1 X.2.1 dX8_readLine_254 (by decide) ?_
    refine tw_callVv [iX 59] X hP (met_X8_mark l D dA ad _ _ hF) (cwV 1 X.2.2.2.2.1 (lw_V q2089 q2091 qs61 q126 q2092) rfl rfl rfl (by decide +kernel) ⟨Nat.le_of_ble_eq_true rfl, Nat.le_of_ble_eq_true rfl⟩) rfl hl (k8 := 0) (cs0 (k := 0)) (by decide) ⟨Nat.le_refl _, Nat.le_refl _⟩ dX8_readLine_256 rfl (fun σ1 H locs hF hP => ?_)
    refine ph_iload_n (n := 1) X hl dX8_readLine_259 rfl rfl ?_
    refine ph_iload_n (n := 2) X hl dX8_readLine_260 rfl rfl ?_
    refine lv_ior X.1 X.2.1 dX8_readLine_261 ?_
    exact tw_iret X hP hF dX8_readLine_262
  · have hF := hF.2 c7
    refine ph_aload_n (n := 0) X hl dX8_readLine_249 rfl rfl ?_
    refine tw_callVv [] X hP (met_X8_readNever l D dA ad _ _ hF) (cwV 0 X.2.2.2.2.1 (lw_V q2105 q2107 qs64 q126 q2108) rfl rfl rfl (by decide +kernel) ⟨Nat.le_of_ble_eq_true rfl, Nat.le_of_ble_eq_true rfl⟩) rfl hl (k8 := 0) (cs0 (k := 0)) (by decide) ⟨Nat.le_refl _, Nat.le_refl _⟩ dX8_readLine_250 rfl (fun σ3 H locs hF hP => ?_)
    refine ph_aload_n (n := 0) X hl dX8_readLine_253 rfl rfl ?_
    refine lv_bipush (v := 59) X.1 X.2.1 dX8_readLine_254 (by decide) ?_
    refine tw_callVv [iX 59] X hP (met_X8_mark l D dA ad _ _ hF) (cwV 1 X.2.2.2.2.1 (lw_V q2089 q2091 qs61 q126 q2092) rfl rfl rfl (by decide +kernel) ⟨Nat.le_of_ble_eq_true rfl, Nat.le_of_ble_eq_true rfl⟩) rfl hl (k8 := 0) (cs0 (k := 0)) (by decide) ⟨Nat.le_refl _, Nat.le_refl _⟩ dX8_readLine_256 rfl (fun σ5 H locs hF hP => ?_)
    refine ph_iload_n (n := 1) X hl dX8_readLine_259 rfl rfl ?_
    refine ph_iload_n (n := 2) X hl dX8_readLine_260 rfl rfl ?_
    refine lv_ior X.1 X.2.1 dX8_readLine_261 ?_
    exact tw_iret X hP hF dX8_readLine_262
set_option maxHeartbeats 2000000 in
theorem w_X8_readLine_108 (X : CX p s m args c meth cX8_readLine 4 (some .int) RX8 D dA ad A) {Q : Int32 → S → Prop} : ∀ (x1 : Int32) (x2 : Int32) (σ : S) (H : Heap) (locs : List Loc) (ls : Array Slot), P_X8_readLine_108 Q x1 x2 σ → PW D dA A s.heap ad (TH σ) H locs → LH ad ls 4 [(0, pX 200), (1, iX x1), (2, iX x2)] → WTi p l e ({ frames := 121, cells := 0, slots := 0, locals := 2862 } : Room) s m args below meth c D dA ad A Q H locs (F0 m 108 ls []) := by
  intro x1 x2 σ H locs ls hF hP hl
  unfold P_X8_readLine_108 at hF
  refine ph_iload_n (n := 2) X hl dX8_readLine_108 rfl rfl ?_
  refine lv_iconst (v := 1) X.1 X.2.1 dX8_readLine_109 (by decide) ?_
  refine lv_icmp_ne (tgt := 144) X.1 X.2.1 dX8_readLine_110 (by decide) (fun c32 => ?_) (fun c32 => ?_)
  · have hF := hF.1 c32
    refine ph_iload_n (n := 2) X hl dX8_readLine_144 rfl rfl ?_
    refine lv_iconst (v := 2) X.1 X.2.1 dX8_readLine_145 (by decide) ?_
    refine lv_icmp_ne (tgt := 167) X.1 X.2.1 dX8_readLine_146 (by decide) (fun c23 => ?_) (fun c23 => ?_)
    · have hF := hF.1 c23
      refine ph_iload_n (n := 2) X hl dX8_readLine_167 rfl rfl ?_
      refine lv_iconst (v := 4) X.1 X.2.1 dX8_readLine_168 (by decide) ?_
      refine lv_icmp_ne (tgt := 189) X.1 X.2.1 dX8_readLine_169 (by decide) (fun c17 => ?_) (fun c17 => ?_)
      · have hF := hF.1 c17
        refine ph_aload_n (n := 0) X hl dX8_readLine_189 rfl rfl ?_
        refine lv_iconst (v := 0) X.1 X.2.1 dX8_readLine_190 (by decide) ?_
        refine tw_callVv [iX 0] X hP (met_X8_readExpressionR l D dA ad 8 _ _ _ _ hF) (cwV 1 X.2.2.2.2.1 (lw_V q2056 q2058 qs53 q126 q2059) rfl rfl rfl (by decide +kernel) ⟨Nat.le_of_ble_eq_true rfl, Nat.le_of_ble_eq_true rfl⟩) rfl hl (k8 := 0) (cs0 (k := 0)) (by decide) ⟨Nat.le_refl _, Nat.le_refl _⟩ dX8_readLine_191 rfl (fun σ8 H locs hF hP => ?_)
        refine lv_goto (tgt := 253) X.1 X.2.1 dX8_readLine_194 (by decide) ?_
        refine ph_aload_n (n := 0) X hl dX8_readLine_253 rfl rfl ?_
        refine lv_bipush (v := 59) X.1 X.2.1 dX8_readLine_254 (by decide) ?_
        refine tw_callVv [iX 59] X hP (met_X8_mark l D dA ad _ _ hF) (cwV 1 X.2.2.2.2.1 (lw_V q2089 q2091 qs61 q126 q2092) rfl rfl rfl (by decide +kernel) ⟨Nat.le_of_ble_eq_true rfl, Nat.le_of_ble_eq_true rfl⟩) rfl hl (k8 := 0) (cs0 (k := 0)) (by decide) ⟨Nat.le_refl _, Nat.le_refl _⟩ dX8_readLine_256 rfl (fun σ10 H locs hF hP => ?_)
        refine ph_iload_n (n := 1) X hl dX8_readLine_259 rfl rfl ?_
        refine ph_iload_n (n := 2) X hl dX8_readLine_260 rfl rfl ?_
        refine lv_ior X.1 X.2.1 dX8_readLine_261 ?_
        exact tw_iret X hP hF dX8_readLine_262
      · have hF := hF.2 c17
        refine ph_aload_n (n := 0) X hl dX8_readLine_172 rfl rfl ?_
        refine tw_getr 3 203 X hP q1773 dX8_readLine_173 ?_
        refine lv_bipush (v := 12) X.1 X.2.1 dX8_readLine_176 (by decide) ?_
        refine ph_aload_n (n := 0) X hl dX8_readLine_178 rfl rfl ?_
        refine lv_iconst (v := 0) X.1 X.2.1 dX8_readLine_179 (by decide) ?_
        refine lv_bipush (v := 60) X.1 X.2.1 dX8_readLine_180 (by decide) ?_
        refine tw_callVi [iX 0, iX 60] X hP (met_X8_readNumber l D dA ad _ _ hF) (cwV 2 X.2.2.2.2.1 (lw_V q2048 q2050 qs51 q126 q2051) rfl rfl rfl (by decide +kernel) ⟨Nat.le_of_ble_eq_true rfl, Nat.le_of_ble_eq_true rfl⟩) rfl hl (k8 := 2) (csi (csr (cs0 (k := 0)))) (by decide) ⟨Nat.le_refl _, Nat.le_refl _⟩ dX8_readLine_182 rfl (fun r13 σ12 H locs hF hP => ?_)
        refine tw_ast 3 (n := 16) X hP (vin (by decide)) (k := 12) (by decide) dX8_readLine_185 hF (fun H locs σ14 hP hF => ?_)
        refine lv_goto (tgt := 253) X.1 X.2.1 dX8_readLine_186 (by decide) ?_
        refine ph_aload_n (n := 0) X hl dX8_readLine_253 rfl rfl ?_
        refine lv_bipush (v := 59) X.1 X.2.1 dX8_readLine_254 (by decide) ?_
        refine tw_callVv [iX 59] X hP (met_X8_mark l D dA ad _ _ hF) (cwV 1 X.2.2.2.2.1 (lw_V q2089 q2091 qs61 q126 q2092) rfl rfl rfl (by decide +kernel) ⟨Nat.le_of_ble_eq_true rfl, Nat.le_of_ble_eq_true rfl⟩) rfl hl (k8 := 0) (cs0 (k := 0)) (by decide) ⟨Nat.le_refl _, Nat.le_refl _⟩ dX8_readLine_256 rfl (fun σ15 H locs hF hP => ?_)
        refine ph_iload_n (n := 1) X hl dX8_readLine_259 rfl rfl ?_
        refine ph_iload_n (n := 2) X hl dX8_readLine_260 rfl rfl ?_
        refine lv_ior X.1 X.2.1 dX8_readLine_261 ?_
        exact tw_iret X hP hF dX8_readLine_262
    · have hF := hF.2 c23
      refine ph_aload_n (n := 0) X hl dX8_readLine_149 rfl rfl ?_
      refine tw_getr 3 203 X hP q1773 dX8_readLine_150 ?_
      refine lv_bipush (v := 11) X.1 X.2.1 dX8_readLine_153 (by decide) ?_
      refine ph_aload_n (n := 0) X hl dX8_readLine_155 rfl rfl ?_
      refine lv_iconst (v := 1) X.1 X.2.1 dX8_readLine_156 (by decide) ?_
      refine lv_sipush (v := 600) X.1 X.2.1 dX8_readLine_157 (by decide) ?_
      refine tw_callVi [iX 1, iX 600] X hP (met_X8_readNumber l D dA ad _ _ hF) (cwV 2 X.2.2.2.2.1 (lw_V q2048 q2050 qs51 q126 q2051) rfl rfl rfl (by decide +kernel) ⟨Nat.le_of_ble_eq_true rfl, Nat.le_of_ble_eq_true rfl⟩) rfl hl (k8 := 2) (csi (csr (cs0 (k := 0)))) (by decide) ⟨Nat.le_refl _, Nat.le_refl _⟩ dX8_readLine_160 rfl (fun r19 σ18 H locs hF hP => ?_)
      refine tw_ast 3 (n := 16) X hP (vin (by decide)) (k := 11) (by decide) dX8_readLine_163 hF (fun H locs σ20 hP hF => ?_)
      refine lv_goto (tgt := 253) X.1 X.2.1 dX8_readLine_164 (by decide) ?_
      refine ph_aload_n (n := 0) X hl dX8_readLine_253 rfl rfl ?_
      refine lv_bipush (v := 59) X.1 X.2.1 dX8_readLine_254 (by decide) ?_
      refine tw_callVv [iX 59] X hP (met_X8_mark l D dA ad _ _ hF) (cwV 1 X.2.2.2.2.1 (lw_V q2089 q2091 qs61 q126 q2092) rfl rfl rfl (by decide +kernel) ⟨Nat.le_of_ble_eq_true rfl, Nat.le_of_ble_eq_true rfl⟩) rfl hl (k8 := 0) (cs0 (k := 0)) (by decide) ⟨Nat.le_refl _, Nat.le_refl _⟩ dX8_readLine_256 rfl (fun σ21 H locs hF hP => ?_)
      refine ph_iload_n (n := 1) X hl dX8_readLine_259 rfl rfl ?_
      refine ph_iload_n (n := 2) X hl dX8_readLine_260 rfl rfl ?_
      refine lv_ior X.1 X.2.1 dX8_readLine_261 ?_
      exact tw_iret X hP hF dX8_readLine_262
  · have hF := hF.2 c32
    refine ph_aload_n (n := 0) X hl dX8_readLine_113 rfl rfl ?_
    refine tw_getr 3 203 X hP q1773 dX8_readLine_114 ?_
    refine lv_bipush (v := 9) X.1 X.2.1 dX8_readLine_117 (by decide) ?_
    refine ph_aload_n (n := 0) X hl dX8_readLine_119 rfl rfl ?_
    refine lv_iconst (v := 1) X.1 X.2.1 dX8_readLine_120 (by decide) ?_
    refine lv_bipush (v := 99) X.1 X.2.1 dX8_readLine_121 (by decide) ?_
    refine tw_callVi [iX 1, iX 99] X hP (met_X8_readNumber l D dA ad _ _ hF) (cwV 2 X.2.2.2.2.1 (lw_V q2048 q2050 qs51 q126 q2051) rfl rfl rfl (by decide +kernel) ⟨Nat.le_of_ble_eq_true rfl, Nat.le_of_ble_eq_true rfl⟩) rfl hl (k8 := 2) (csi (csr (cs0 (k := 0)))) (by decide) ⟨Nat.le_refl _, Nat.le_refl _⟩ dX8_readLine_123 rfl (fun r25 σ24 H locs hF hP => ?_)
    refine tw_ast 3 (n := 16) X hP (vin (by decide)) (k := 9) (by decide) dX8_readLine_126 hF (fun H locs σ26 hP hF => ?_)
    refine ph_aload_n (n := 0) X hl dX8_readLine_127 rfl rfl ?_
    refine tw_getr 3 203 X hP q1773 dX8_readLine_128 ?_
    refine lv_bipush (v := 10) X.1 X.2.1 dX8_readLine_131 (by decide) ?_
    refine ph_aload_n (n := 0) X hl dX8_readLine_133 rfl rfl ?_
    refine lv_iconst (v := 0) X.1 X.2.1 dX8_readLine_134 (by decide) ?_
    refine lv_bipush (v := 9) X.1 X.2.1 dX8_readLine_135 (by decide) ?_
    refine tw_callVi [iX 0, iX 9] X hP (met_X8_readNumber l D dA ad _ _ hF) (cwV 2 X.2.2.2.2.1 (lw_V q2048 q2050 qs51 q126 q2051) rfl rfl rfl (by decide +kernel) ⟨Nat.le_of_ble_eq_true rfl, Nat.le_of_ble_eq_true rfl⟩) rfl hl (k8 := 2) (csi (csr (cs0 (k := 0)))) (by decide) ⟨Nat.le_refl _, Nat.le_refl _⟩ dX8_readLine_137 rfl (fun r28 σ27 H locs hF hP => ?_)
    refine tw_ast 3 (n := 16) X hP (vin (by decide)) (k := 10) (by decide) dX8_readLine_140 hF (fun H locs σ29 hP hF => ?_)
    refine lv_goto (tgt := 253) X.1 X.2.1 dX8_readLine_141 (by decide) ?_
    refine ph_aload_n (n := 0) X hl dX8_readLine_253 rfl rfl ?_
    refine lv_bipush (v := 59) X.1 X.2.1 dX8_readLine_254 (by decide) ?_
    refine tw_callVv [iX 59] X hP (met_X8_mark l D dA ad _ _ hF) (cwV 1 X.2.2.2.2.1 (lw_V q2089 q2091 qs61 q126 q2092) rfl rfl rfl (by decide +kernel) ⟨Nat.le_of_ble_eq_true rfl, Nat.le_of_ble_eq_true rfl⟩) rfl hl (k8 := 0) (cs0 (k := 0)) (by decide) ⟨Nat.le_refl _, Nat.le_refl _⟩ dX8_readLine_256 rfl (fun σ30 H locs hF hP => ?_)
    refine ph_iload_n (n := 1) X hl dX8_readLine_259 rfl rfl ?_
    refine ph_iload_n (n := 2) X hl dX8_readLine_260 rfl rfl ?_
    refine lv_ior X.1 X.2.1 dX8_readLine_261 ?_
    exact tw_iret X hP hF dX8_readLine_262
set_option maxHeartbeats 2000000 in
theorem w_X8_readLine_93 (X : CX p s m args c meth cX8_readLine 4 (some .int) RX8 D dA ad A) {Q : Int32 → S → Prop} : ∀ (x1 : Int32) (x2 : Int32) (x3 : Int32) (σ : S) (H : Heap) (locs : List Loc) (ls : Array Slot), P_X8_readLine_93 Q x1 x2 x3 σ → PW D dA A s.heap ad (TH σ) H locs → LH ad ls 4 [(0, pX 200), (1, iX x1), (2, iX x2), (3, iX x3)] → WTi p l e ({ frames := 121, cells := 0, slots := 0, locals := 2862 } : Room) s m args below meth c D dA ad A Q H locs (F0 m 93 ls []) := by
  intro x1 x2 x3 σ H locs ls hF hP hl
  unfold P_X8_readLine_93 at hF
  refine ph_iload_n (n := 2) X hl dX8_readLine_93 rfl rfl ?_
  refine lv_if_le (tgt := 197) X.1 X.2.1 dX8_readLine_94 (by decide) (fun c53 => ?_) (fun c53 => ?_)
  · have hF := hF.1 c53
    refine ph_iload_n (n := 3) X hl dX8_readLine_197 rfl rfl ?_
    refine lv_iconst (v := (-1)) X.1 X.2.1 dX8_readLine_198 (by decide) ?_
    refine lv_icmp_eq (tgt := 210) X.1 X.2.1 dX8_readLine_199 (by decide) (fun c49 => ?_) (fun c49 => ?_)
    · have hF := hF.1 c49
      refine ph_aload_n (n := 0) X hl dX8_readLine_210 rfl rfl ?_
      refine ph_ldcSw (i := 4) (tx := "bolster") X (List.mem_of_getElem? (i := 18) rfl) dX8_readLine_211 ?_
      refine tw_callVi [pX 9] X hP (met_X8_is l D dA ad _ _ hF) (cwV 1 X.2.2.2.2.1 (lw_V q2030 q2032 qs48 q126 q2033) rfl rfl rfl (by decide +kernel) ⟨Nat.le_of_ble_eq_true rfl, Nat.le_of_ble_eq_true rfl⟩) rfl hl (k8 := 0) (cs0 (k := 0)) (by decide) ⟨Nat.le_refl _, Nat.le_refl _⟩ dX8_readLine_214 rfl (fun r34 σ33 H locs hF hP => ?_)
      refine lv_if_eq (tgt := 227) X.1 X.2.1 dX8_readLine_217 (by decide) (fun c44 => ?_) (fun c44 => ?_)
      · have hF := hF.1 c44
        refine ph_aload_n (n := 0) X hl dX8_readLine_227 rfl rfl ?_
        refine ph_ldcSw (i := 5) (tx := "never") X (List.mem_of_getElem? (i := 19) rfl) dX8_readLine_228 ?_
        refine tw_callVi [pX 11] X hP (met_X8_is l D dA ad _ _ hF) (cwV 1 X.2.2.2.2.1 (lw_V q2030 q2032 qs48 q126 q2033) rfl rfl rfl (by decide +kernel) ⟨Nat.le_of_ble_eq_true rfl, Nat.le_of_ble_eq_true rfl⟩) rfl hl (k8 := 0) (cs0 (k := 0)) (by decide) ⟨Nat.le_refl _, Nat.le_refl _⟩ dX8_readLine_231 rfl (fun r36 σ35 H locs hF hP => ?_)
        refine lv_if_ne (tgt := 242) X.1 X.2.1 dX8_readLine_234 (by decide) (fun c39 => ?_) (fun c39 => ?_)
        · have hF := hF.1 c39
          exact w_X8_readLine_242 X _ _ _ _ _ _ hF hP (lh_sub hl [0, 1, 2] rfl)
        · have hF := hF.2 c39
          refine ph_aload_n (n := 0) X hl dX8_readLine_237 rfl rfl ?_
          refine lv_iconst (v := 1) X.1 X.2.1 dX8_readLine_238 (by decide) ?_
          refine tw_callVv [iX 1] X hP (met_X8_wrong l D dA ad _ _ hF) (cwV 1 X.2.2.2.2.1 (lw_V q2044 q2046 qs50 q126 q2047) rfl rfl rfl (by decide +kernel) ⟨Nat.le_of_ble_eq_true rfl, Nat.le_of_ble_eq_true rfl⟩) rfl hl (k8 := 0) (cs0 (k := 0)) (by decide) ⟨Nat.le_refl _, Nat.le_refl _⟩ dX8_readLine_239 rfl (fun σ37 H locs hF hP => ?_)
          exact w_X8_readLine_242 X _ _ _ _ _ _ hF hP (lh_sub hl [0, 1, 2] rfl)
      · have hF := hF.2 c44
        refine ph_aload_n (n := 0) X hl dX8_readLine_220 rfl rfl ?_
        refine tw_callVv [] X hP (met_X8_readBolster l D dA ad _ _ hF) (cwV 0 X.2.2.2.2.1 (lw_V q2100 q2102 qs63 q126 q2103) rfl rfl rfl (by decide +kernel) ⟨Nat.le_of_ble_eq_true rfl, Nat.le_of_ble_eq_true rfl⟩) rfl hl (k8 := 0) (cs0 (k := 0)) (by decide) ⟨Nat.le_refl _, Nat.le_refl _⟩ dX8_readLine_221 rfl (fun σ40 H locs hF hP => ?_)
        refine lv_goto (tgt := 253) X.1 X.2.1 dX8_readLine_224 (by decide) ?_
        refine ph_aload_n (n := 0) X hl dX8_readLine_253 rfl rfl ?_
        refine lv_bipush (v := 59) X.1 X.2.1 dX8_readLine_254 (by decide) ?_
        refine tw_callVv [iX 59] X hP (met_X8_mark l D dA ad _ _ hF) (cwV 1 X.2.2.2.2.1 (lw_V q2089 q2091 qs61 q126 q2092) rfl rfl rfl (by decide +kernel) ⟨Nat.le_of_ble_eq_true rfl, Nat.le_of_ble_eq_true rfl⟩) rfl hl (k8 := 0) (cs0 (k := 0)) (by decide) ⟨Nat.le_refl _, Nat.le_refl _⟩ dX8_readLine_256 rfl (fun σ42 H locs hF hP => ?_)
        refine ph_iload_n (n := 1) X hl dX8_readLine_259 rfl rfl ?_
        refine ph_iload_n (n := 2) X hl dX8_readLine_260 rfl rfl ?_
        refine lv_ior X.1 X.2.1 dX8_readLine_261 ?_
        exact tw_iret X hP hF dX8_readLine_262
    · have hF := hF.2 c49
      refine ph_aload_n (n := 0) X hl dX8_readLine_202 rfl rfl ?_
      refine ph_iload_n (n := 3) X hl dX8_readLine_203 rfl rfl ?_
      refine tw_callVv [iX x3] X hP (met_X8_readSleeper l D dA ad _ _ hF) (cwV 1 X.2.2.2.2.1 (lw_V q2095 q2097 qs62 q126 q2098) rfl rfl rfl (by decide +kernel) ⟨Nat.le_of_ble_eq_true rfl, Nat.le_of_ble_eq_true rfl⟩) rfl hl (k8 := 0) (cs0 (k := 0)) (by decide) ⟨Nat.le_refl _, Nat.le_refl _⟩ dX8_readLine_204 rfl (fun σ45 H locs hF hP => ?_)
      refine lv_goto (tgt := 253) X.1 X.2.1 dX8_readLine_207 (by decide) ?_
      refine ph_aload_n (n := 0) X hl dX8_readLine_253 rfl rfl ?_
      refine lv_bipush (v := 59) X.1 X.2.1 dX8_readLine_254 (by decide) ?_
      refine tw_callVv [iX 59] X hP (met_X8_mark l D dA ad _ _ hF) (cwV 1 X.2.2.2.2.1 (lw_V q2089 q2091 qs61 q126 q2092) rfl rfl rfl (by decide +kernel) ⟨Nat.le_of_ble_eq_true rfl, Nat.le_of_ble_eq_true rfl⟩) rfl hl (k8 := 0) (cs0 (k := 0)) (by decide) ⟨Nat.le_refl _, Nat.le_refl _⟩ dX8_readLine_256 rfl (fun σ47 H locs hF hP => ?_)
      refine ph_iload_n (n := 1) X hl dX8_readLine_259 rfl rfl ?_
      refine ph_iload_n (n := 2) X hl dX8_readLine_260 rfl rfl ?_
      refine lv_ior X.1 X.2.1 dX8_readLine_261 ?_
      exact tw_iret X hP hF dX8_readLine_262
  · have hF := hF.2 c53
    refine ph_aload_n (n := 0) X hl dX8_readLine_97 rfl rfl ?_
    refine tw_geti 21 X hP q1791 dX8_readLine_98 ?_
    refine lv_if_ne (tgt := 108) X.1 X.2.1 dX8_readLine_101 (by decide) (fun c52 => ?_) (fun c52 => ?_)
    · have hF := hF.1 c52
      exact w_X8_readLine_108 X _ _ _ _ _ _ hF hP (lh_sub hl [0, 1, 2] rfl)
    · have hF := hF.2 c52
      refine ph_aload_n (n := 0) X hl dX8_readLine_104 rfl rfl ?_
      refine tw_callVv [] X hP (met_X8_stepOn l D dA ad _ _ hF) (cwV 0 X.2.2.2.2.1 (lw_V q2006 q2008 qs45 q126 q2009) rfl rfl rfl (by decide +kernel) ⟨Nat.le_of_ble_eq_true rfl, Nat.le_of_ble_eq_true rfl⟩) rfl hl (k8 := 0) (cs0 (k := 0)) (by decide) ⟨Nat.le_refl _, Nat.le_refl _⟩ dX8_readLine_105 rfl (fun σ50 H locs hF hP => ?_)
      exact w_X8_readLine_108 X _ _ _ _ _ _ hF hP (lh_sub hl [0, 1, 2] rfl)
set_option maxHeartbeats 2000000 in
theorem w_X8_readLine_81 (X : CX p s m args c meth cX8_readLine 4 (some .int) RX8 D dA ad A) {Q : Int32 → S → Prop} : ∀ (y0 : Int32) (x1 : Int32) (x2 : Int32) (σ : S) (H : Heap) (locs : List Loc) (ls : Array Slot), P_X8_readLine_81 Q y0 x1 x2 σ → PW D dA A s.heap ad (TH σ) H locs → LH ad ls 4 [(0, pX 200), (1, iX x1), (2, iX x2)] → WTi p l e ({ frames := 121, cells := 0, slots := 0, locals := 2862 } : Room) s m args below meth c D dA ad A Q H locs (F0 m 81 ls [.int y0]) := by
  intro y0 x1 x2 σ H locs ls hF hP hl
  unfold P_X8_readLine_81 at hF
  refine ph_istore_n X hl dX8_readLine_81 rfl (by decide) rfl (fun ls hl => ?_)
  refine ph_iload_n (n := 3) X hl dX8_readLine_82 rfl rfl ?_
  refine ph_iload_n (n := 2) X hl dX8_readLine_83 rfl rfl ?_
  refine lv_iand X.1 X.2.1 dX8_readLine_84 ?_
  refine lv_if_eq (tgt := 93) X.1 X.2.1 dX8_readLine_85 (by decide) (fun c56 => ?_) (fun c56 => ?_)
  · have hF := hF.1 c56
    exact w_X8_readLine_93 X _ _ _ _ _ _ _ hF hP (lh_sub hl [1, 2, 3, 0] rfl)
  · have hF := hF.2 c56
    refine ph_aload_n (n := 1) X hl dX8_readLine_88 rfl rfl ?_
    refine lv_iconst (v := 5) X.1 X.2.1 dX8_readLine_89 (by decide) ?_
    refine tw_callVv [iX 5] X hP (met_X8_wrong l D dA ad _ _ hF) (cwV 1 X.2.2.2.2.1 (lw_V q2044 q2046 qs50 q126 q2047) rfl rfl rfl (by decide +kernel) ⟨Nat.le_of_ble_eq_true rfl, Nat.le_of_ble_eq_true rfl⟩) rfl hl (k8 := 0) (cs0 (k := 0)) (by decide) ⟨Nat.le_refl _, Nat.le_refl _⟩ dX8_readLine_90 rfl (fun σ54 H locs hF hP => ?_)
    exact w_X8_readLine_93 X _ _ _ _ _ _ _ hF hP (lh_sub hl [1, 2, 3, 0] rfl)
set_option maxHeartbeats 2000000 in
theorem w_X8_readLine_58 (X : CX p s m args c meth cX8_readLine 4 (some .int) RX8 D dA ad A) {Q : Int32 → S → Prop} : ∀ (y0 : Int32) (x1 : Int32) (σ : S) (H : Heap) (locs : List Loc) (ls : Array Slot), P_X8_readLine_58 Q y0 x1 σ → PW D dA A s.heap ad (TH σ) H locs → LH ad ls 4 [(0, pX 200), (1, iX x1)] → WTi p l e ({ frames := 121, cells := 0, slots := 0, locals := 2862 } : Room) s m args below meth c D dA ad A Q H locs (F0 m 58 ls [.int y0]) := by
  intro y0 x1 σ H locs ls hF hP hl
  unfold P_X8_readLine_58 at hF
  refine ph_istore_n X hl dX8_readLine_58 rfl (by decide) rfl (fun ls hl => ?_)
  refine ph_aload_n (n := 1) X hl dX8_readLine_59 rfl rfl ?_
  refine ph_ldcSw (i := 9) (tx := "dog") X (List.mem_of_getElem? (i := 14) rfl) dX8_readLine_60 ?_
  refine tw_callVi [pX 19] X hP (met_X8_is l D dA ad _ _ hF) (cwV 1 X.2.2.2.2.1 (lw_V q2030 q2032 qs48 q126 q2033) rfl rfl rfl (by decide +kernel) ⟨Nat.le_of_ble_eq_true rfl, Nat.le_of_ble_eq_true rfl⟩) rfl hl (k8 := 0) (cs0 (k := 0)) (by decide) ⟨Nat.le_refl _, Nat.le_refl _⟩ dX8_readLine_63 rfl (fun r58 σ57 H locs hF hP => ?_)
  refine lv_if_eq (tgt := 73) X.1 X.2.1 dX8_readLine_66 (by decide) (fun c61 => ?_) (fun c61 => ?_)
  · have hF := hF.1 c61
    refine ph_aload_n (n := 1) X hl dX8_readLine_73 rfl rfl ?_
    refine ph_aload_n (n := 1) X hl dX8_readLine_74 rfl rfl ?_
    refine tw_getr 0 201 X hP q1770 dX8_readLine_75 ?_
    refine tw_callVi [pX 201] X hP (met_X8_which l D dA ad _ _ hF) (cwV 1 X.2.2.2.2.1 (lw_V q2040 q2042 qs49 q126 q2043) rfl rfl rfl (by decide +kernel) ⟨Nat.le_of_ble_eq_true rfl, Nat.le_of_ble_eq_true rfl⟩) rfl hl (k8 := 0) (cs0 (k := 0)) (by decide) ⟨Nat.le_refl _, Nat.le_refl _⟩ dX8_readLine_78 rfl (fun r60 σ59 H locs hF hP => ?_)
    exact w_X8_readLine_81 X _ _ _ _ _ _ _ hF hP (lh_sub hl [1, 2, 0] rfl)
  · have hF := hF.2 c61
    refine lv_iconst (v := 3) X.1 X.2.1 dX8_readLine_69 (by decide) ?_
    refine lv_goto (tgt := 81) X.1 X.2.1 dX8_readLine_70 (by decide) ?_
    exact w_X8_readLine_81 X _ _ _ _ _ _ _ hF hP (lh_sub hl [1, 2, 0] rfl)
set_option maxHeartbeats 2000000 in
theorem met_X8_readLine (l : Launch) (D : va_G) (dA : Nat → ClassId) (ad : Nat → Nat) (σ : S) (sz : Nat) {a1 : Int32} {Q : Int32 → S → Prop} (hF : P_X8_readLine a1 σ Q) : CTi l yX8_readLine cX8_readLine 4 .int ({ frames := 121, cells := 0, slots := 0, locals := 2862 } : Room) D dA ad σ sz [pX 200, iX a1] Q := by
  unfold P_X8_readLine at hF
  refine ph_enter [pX 200, iX a1] (Qc := fun A => va_Qi (TQi Q) (CB D dA ad A) A) (by decide +kernel) (Nat.le_of_ble_eq_true rfl) ?_
  intro p e s m args below meth c A ls X hP hl hnm
  have hl : LH ad ls 4 [(0, pX 200), (1, iX a1)] := hl
  refine ph_aload_n (n := 0) X hl dX8_readLine_0 rfl rfl ?_
  refine ph_ldcSw (i := 0) (tx := "bed") X (List.mem_of_getElem? (i := 10) rfl) dX8_readLine_1 ?_
  refine tw_callVi [pX 1] X hP (met_X8_is l D dA ad _ _ hF) (cwV 1 X.2.2.2.2.1 (lw_V q2030 q2032 qs48 q126 q2033) rfl rfl rfl (by decide +kernel) ⟨Nat.le_of_ble_eq_true rfl, Nat.le_of_ble_eq_true rfl⟩) rfl hl (k8 := 0) (cs0 (k := 0)) (by decide) ⟨Nat.le_refl _, Nat.le_refl _⟩ dX8_readLine_4 rfl (fun r63 σ62 H locs hF hP => ?_)
  refine lv_if_eq (tgt := 14) X.1 X.2.1 dX8_readLine_7 (by decide) (fun c73 => ?_) (fun c73 => ?_)
  · have hF := hF.1 c73
    refine ph_aload_n (n := 0) X hl dX8_readLine_14 rfl rfl ?_
    refine ph_ldcSw (i := 1) (tx := "night") X (List.mem_of_getElem? (i := 11) rfl) dX8_readLine_15 ?_
    refine tw_callVi [pX 3] X hP (met_X8_is l D dA ad _ _ hF) (cwV 1 X.2.2.2.2.1 (lw_V q2030 q2032 qs48 q126 q2033) rfl rfl rfl (by decide +kernel) ⟨Nat.le_of_ble_eq_true rfl, Nat.le_of_ble_eq_true rfl⟩) rfl hl (k8 := 0) (cs0 (k := 0)) (by decide) ⟨Nat.le_refl _, Nat.le_refl _⟩ dX8_readLine_18 rfl (fun r65 σ64 H locs hF hP => ?_)
    refine lv_if_eq (tgt := 28) X.1 X.2.1 dX8_readLine_21 (by decide) (fun c72 => ?_) (fun c72 => ?_)
    · have hF := hF.1 c72
      refine ph_aload_n (n := 0) X hl dX8_readLine_28 rfl rfl ?_
      refine ph_ldcSw (i := 2) (tx := "awake") X (List.mem_of_getElem? (i := 12) rfl) dX8_readLine_29 ?_
      refine tw_callVi [pX 5] X hP (met_X8_is l D dA ad _ _ hF) (cwV 1 X.2.2.2.2.1 (lw_V q2030 q2032 qs48 q126 q2033) rfl rfl rfl (by decide +kernel) ⟨Nat.le_of_ble_eq_true rfl, Nat.le_of_ble_eq_true rfl⟩) rfl hl (k8 := 0) (cs0 (k := 0)) (by decide) ⟨Nat.le_refl _, Nat.le_refl _⟩ dX8_readLine_32 rfl (fun r67 σ66 H locs hF hP => ?_)
      refine lv_if_eq (tgt := 42) X.1 X.2.1 dX8_readLine_35 (by decide) (fun c71 => ?_) (fun c71 => ?_)
      · have hF := hF.1 c71
        refine ph_aload_n (n := 0) X hl dX8_readLine_42 rfl rfl ?_
        refine ph_ldcSw (i := 3) (tx := "wakes") X (List.mem_of_getElem? (i := 13) rfl) dX8_readLine_43 ?_
        refine tw_callVi [pX 7] X hP (met_X8_is l D dA ad _ _ hF) (cwV 1 X.2.2.2.2.1 (lw_V q2030 q2032 qs48 q126 q2033) rfl rfl rfl (by decide +kernel) ⟨Nat.le_of_ble_eq_true rfl, Nat.le_of_ble_eq_true rfl⟩) rfl hl (k8 := 0) (cs0 (k := 0)) (by decide) ⟨Nat.le_refl _, Nat.le_refl _⟩ dX8_readLine_46 rfl (fun r69 σ68 H locs hF hP => ?_)
        refine lv_if_eq (tgt := 57) X.1 X.2.1 dX8_readLine_49 (by decide) (fun c70 => ?_) (fun c70 => ?_)
        · have hF := hF.1 c70
          refine lv_iconst (v := 0) X.1 X.2.1 dX8_readLine_57 (by decide) ?_
          exact w_X8_readLine_58 X _ _ _ _ _ _ hF hP hl
        · have hF := hF.2 c70
          refine lv_bipush (v := 8) X.1 X.2.1 dX8_readLine_52 (by decide) ?_
          refine lv_goto (tgt := 58) X.1 X.2.1 dX8_readLine_54 (by decide) ?_
          exact w_X8_readLine_58 X _ _ _ _ _ _ hF hP hl
      · have hF := hF.2 c71
        refine lv_iconst (v := 4) X.1 X.2.1 dX8_readLine_38 (by decide) ?_
        refine lv_goto (tgt := 58) X.1 X.2.1 dX8_readLine_39 (by decide) ?_
        exact w_X8_readLine_58 X _ _ _ _ _ _ hF hP hl
    · have hF := hF.2 c72
      refine lv_iconst (v := 2) X.1 X.2.1 dX8_readLine_24 (by decide) ?_
      refine lv_goto (tgt := 58) X.1 X.2.1 dX8_readLine_25 (by decide) ?_
      exact w_X8_readLine_58 X _ _ _ _ _ _ hF hP hl
  · have hF := hF.2 c73
    refine lv_iconst (v := 1) X.1 X.2.1 dX8_readLine_10 (by decide) ?_
    refine lv_goto (tgt := 58) X.1 X.2.1 dX8_readLine_11 (by decide) ?_
    exact w_X8_readLine_58 X _ _ _ _ _ _ hF hP hl
def P_X8_bed_141 (Q : Int32 → S → Prop)  (σ : S) : Prop := (((σ 0 21) = 0 → (P_X8_takeOver σ (fun σ1 => (Q 0 σ1)))) ∧ (¬ (σ 0 21) = 0 → (∀ σ3, σ3 = up2 σ 0 23 (σ 0 22) → (∀ σ4, σ4 = up2 σ3 12 0 ((σ3 12 0) + 1) → (Q (σ4 0 21) σ4)))))
def P_X8_bed_118 (Q : Int32 → S → Prop) : Nat → Int32 → S → Prop
  | 0, _, _ => False
  | n + 1, x2, σ => ((¬ (σ 0 21) = 0 → (P_X8_bed_141 Q σ)) ∧ ((σ 0 21) = 0 → (((σ 0 17) = 0 → (P_X8_bed_141 Q σ)) ∧ (¬ (σ 0 17) = 0 → (P_X8_readLine x2 σ (fun r7 σ6 => (P_X8_bed_118 Q  n r7 σ6)))))))
def P_X8_bed_50 (Q : Int32 → S → Prop) : Nat → Int32 → S → Prop
  | 0, _, _ => False
  | n + 1, x2, σ => ((8 ≤ x2 → (P_X8_stepOn σ (fun σ10 => (∃ n9, P_X8_bed_118 Q n9 0 σ10)))) ∧ (¬ 8 ≤ x2 → ((¬ x2 = 1 → ((¬ x2 = 2 → ((¬ x2 = 3 → ((¬ x2 = 4 → (vp_in (8 + x2) 16 ∧ (∀ σ12, σ12 = up2 σ 3 ((8 + x2).toNatClampNeg) 0 → (P_X8_bed_50 Q  n (x2 + 1) σ12)))) ∧ (x2 = 4 → (vp_in (8 + x2) 16 ∧ (∀ σ14, σ14 = up2 σ 3 ((8 + x2).toNatClampNeg) 15 → (P_X8_bed_50 Q  n (x2 + 1) σ14)))))) ∧ (x2 = 3 → (vp_in (8 + x2) 16 ∧ (∀ σ17, σ17 = up2 σ 3 ((8 + x2).toNatClampNeg) 480 → (P_X8_bed_50 Q  n (x2 + 1) σ17)))))) ∧ (x2 = 2 → (vp_in (8 + x2) 16 ∧ (∀ σ20, σ20 = up2 σ 3 ((8 + x2).toNatClampNeg) 3 → (P_X8_bed_50 Q  n (x2 + 1) σ20)))))) ∧ (x2 = 1 → (vp_in (8 + x2) 16 ∧ (∀ σ23, σ23 = up2 σ 3 ((8 + x2).toNatClampNeg) 20 → (P_X8_bed_50 Q  n (x2 + 1) σ23)))))))
def P_X8_bed (a1 : Int32) (σ : S) (Q : Int32 → S → Prop) : Prop := (∀ σ27, σ27 = up2 σ 0 2 0 → ((a1 < 0 → (P_X8_fail 1 σ27 (fun r29 σ28 => (Q r29 σ28)))) ∧ (¬ a1 < 0 → ((a1 ≤ (σ27 0 14) → (∀ σ30, σ30 = up2 σ27 0 14 0 → (∀ σ31, σ31 = up2 σ30 0 16 a1 → (∀ σ32, σ32 = up2 σ31 0 15 0 → (∀ σ33, σ33 = up2 σ32 0 21 0 → (∀ σ34, σ34 = up2 σ33 0 23 (-1) → (∃ n9, P_X8_bed_50 Q n9 0 σ34))))))) ∧ (¬ a1 ≤ (σ27 0 14) → (P_X8_fail 1 σ27 (fun r36 σ35 => (Q r36 σ35))))))))
set_option maxHeartbeats 2000000 in
theorem w_X8_bed_141 (X : CX p s m args c meth cX8_bed 3 (some .int) RX8 D dA ad A) {Q : Int32 → S → Prop} : ∀  (σ : S) (H : Heap) (locs : List Loc) (ls : Array Slot), P_X8_bed_141 Q  σ → PW D dA A s.heap ad (TH σ) H locs → LH ad ls 3 [(0, pX 200)] → WTi p l e ({ frames := 122, cells := 0, slots := 0, locals := 2885 } : Room) s m args below meth c D dA ad A Q H locs (F0 m 141 ls []) := by
  intro  σ H locs ls hF hP hl
  unfold P_X8_bed_141 at hF
  refine ph_aload_n (n := 0) X hl dX8_bed_141 rfl rfl ?_
  refine tw_geti 21 X hP q1791 dX8_bed_142 ?_
  refine lv_if_eq (tgt := 171) X.1 X.2.1 dX8_bed_145 (by decide) (fun c5 => ?_) (fun c5 => ?_)
  · have hF := hF.1 c5
    refine ph_aload_n (n := 0) X hl dX8_bed_171 rfl rfl ?_
    refine tw_callVv [] X hP (met_X8_takeOver l D dA ad _ _ hF) (cwV 0 X.2.2.2.2.1 (lw_V q2113 q2115 qs66 q126 q2116) rfl rfl rfl (by decide +kernel) ⟨Nat.le_of_ble_eq_true rfl, Nat.le_of_ble_eq_true rfl⟩) rfl hl (k8 := 0) (cs0 (k := 0)) (by decide) ⟨Nat.le_refl _, Nat.le_refl _⟩ dX8_bed_172 rfl (fun σ1 H locs hF hP => ?_)
    refine lv_iconst (v := 0) X.1 X.2.1 dX8_bed_175 (by decide) ?_
    exact tw_iret X hP hF dX8_bed_176
  · have hF := hF.2 c5
    refine ph_aload_n (n := 0) X hl dX8_bed_148 rfl rfl ?_
    refine ph_aload_n (n := 0) X hl dX8_bed_149 rfl rfl ?_
    refine tw_geti 22 X hP q1792 dX8_bed_150 ?_
    refine tw_puti 23 X hP q1793 dX8_bed_153 hF (fun H locs σ3 hP hF => ?_)
    refine ph_aload_n (n := 0) X hl dX8_bed_156 rfl rfl ?_
    refine tw_getr 12 212 X hP q1782 dX8_bed_157 ?_
    refine lv_iconst (v := 0) X.1 X.2.1 dX8_bed_160 (by decide) ?_
    refine ph_dup2_ir X dX8_bed_161 ?_
    refine tw_ald 12 (n := 3) X hP (vin (by decide)) (k := 0) (by decide) dX8_bed_162 ?_
    refine lv_iconst (v := 1) X.1 X.2.1 dX8_bed_163 (by decide) ?_
    refine lv_iadd X.1 X.2.1 dX8_bed_164 ?_
    refine tw_ast 12 (n := 3) X hP (vin (by decide)) (k := 0) (by decide) dX8_bed_165 hF (fun H locs σ4 hP hF => ?_)
    refine ph_aload_n (n := 0) X hl dX8_bed_166 rfl rfl ?_
    refine tw_geti 21 X hP q1791 dX8_bed_167 ?_
    exact tw_iret X hP hF dX8_bed_170
set_option maxHeartbeats 2000000 in
theorem w_X8_bed_118 (X : CX p s m args c meth cX8_bed 3 (some .int) RX8 D dA ad A) {Q : Int32 → S → Prop} : ∀ (n : Nat) (x2 : Int32) (σ : S) (H : Heap) (locs : List Loc) (ls : Array Slot), P_X8_bed_118 Q n x2 σ → PW D dA A s.heap ad (TH σ) H locs → LH ad ls 3 [(0, pX 200), (2, iX x2)] → WTi p l e ({ frames := 122, cells := 0, slots := 0, locals := 2885 } : Room) s m args below meth c D dA ad A Q H locs (F0 m 118 ls []) := by
  intro n
  induction n with
  | zero =>
    intro x2 σ H locs ls hF
    exact hF.elim
  | succ n ih =>
    intro x2 σ H locs ls hF hP hl
    rw [P_X8_bed_118] at hF
    refine ph_aload_n (n := 0) X hl dX8_bed_118 rfl rfl ?_
    refine tw_geti 21 X hP q1791 dX8_bed_119 ?_
    refine lv_if_ne (tgt := 141) X.1 X.2.1 dX8_bed_122 (by decide) (fun c9 => ?_) (fun c9 => ?_)
    · have hF := hF.1 c9
      exact w_X8_bed_141 X _ _ _ _ hF hP (lh_sub hl [0] rfl)
    · have hF := hF.2 c9
      refine ph_aload_n (n := 0) X hl dX8_bed_125 rfl rfl ?_
      refine tw_geti 17 X hP q1787 dX8_bed_126 ?_
      refine lv_if_eq (tgt := 141) X.1 X.2.1 dX8_bed_129 (by decide) (fun c8 => ?_) (fun c8 => ?_)
      · have hF := hF.1 c8
        exact w_X8_bed_141 X _ _ _ _ hF hP (lh_sub hl [0] rfl)
      · have hF := hF.2 c8
        refine ph_aload_n (n := 0) X hl dX8_bed_132 rfl rfl ?_
        refine ph_iload_n (n := 1) X hl dX8_bed_133 rfl rfl ?_
        refine tw_callVi [iX x2] X hP (met_X8_readLine l D dA ad _ _ hF) (cwV 1 X.2.2.2.2.1 (lw_V q2025 q2027 qs47 q126 q2028) rfl rfl rfl (by decide +kernel) ⟨Nat.le_of_ble_eq_true rfl, Nat.le_of_ble_eq_true rfl⟩) rfl hl (k8 := 0) (cs0 (k := 0)) (by decide) ⟨Nat.le_refl _, Nat.le_refl _⟩ dX8_bed_134 rfl (fun r7 σ6 H locs hF hP => ?_)
        refine ph_istore_n X hl dX8_bed_137 rfl (by decide) rfl (fun ls hl => ?_)
        refine lv_goto (tgt := 118) X.1 X.2.1 dX8_bed_138 (by decide) ?_
        exact ih _ _ _ _ _ hF hP (lh_sub hl [1, 0] rfl)
set_option maxHeartbeats 2000000 in
theorem w_X8_bed_50 (X : CX p s m args c meth cX8_bed 3 (some .int) RX8 D dA ad A) {Q : Int32 → S → Prop} : ∀ (n : Nat) (x2 : Int32) (σ : S) (H : Heap) (locs : List Loc) (ls : Array Slot), P_X8_bed_50 Q n x2 σ → PW D dA A s.heap ad (TH σ) H locs → LH ad ls 3 [(0, pX 200), (2, iX x2)] → WTi p l e ({ frames := 122, cells := 0, slots := 0, locals := 2885 } : Room) s m args below meth c D dA ad A Q H locs (F0 m 50 ls []) := by
  intro n
  induction n with
  | zero =>
    intro x2 σ H locs ls hF
    exact hF.elim
  | succ n ih =>
    intro x2 σ H locs ls hF hP hl
    rw [P_X8_bed_50] at hF
    refine ph_iload_n (n := 1) X hl dX8_bed_50 rfl rfl ?_
    refine lv_bipush (v := 8) X.1 X.2.1 dX8_bed_51 (by decide) ?_
    refine lv_icmp_ge (tgt := 112) X.1 X.2.1 dX8_bed_53 (by decide) (fun c26 => ?_) (fun c26 => ?_)
    · have hF := hF.1 c26
      refine ph_aload_n (n := 0) X hl dX8_bed_112 rfl rfl ?_
      refine tw_callVv [] X hP (met_X8_stepOn l D dA ad _ _ hF) (cwV 0 X.2.2.2.2.1 (lw_V q2006 q2008 qs45 q126 q2009) rfl rfl rfl (by decide +kernel) ⟨Nat.le_of_ble_eq_true rfl, Nat.le_of_ble_eq_true rfl⟩) rfl hl (k8 := 0) (cs0 (k := 0)) (by decide) ⟨Nat.le_refl _, Nat.le_refl _⟩ dX8_bed_113 rfl (fun σ10 H locs hF hP => ?_)
      refine lv_iconst (v := 0) X.1 X.2.1 dX8_bed_116 (by decide) ?_
      refine ph_istore_n X hl dX8_bed_117 rfl (by decide) rfl (fun ls hl => ?_)
      obtain ⟨n9, hF⟩ := hF
      exact w_X8_bed_118 X n9 _ _ _ _ _ hF hP (lh_sub hl [1, 0] rfl)
    · have hF := hF.2 c26
      refine ph_aload_n (n := 0) X hl dX8_bed_56 rfl rfl ?_
      refine tw_getr 3 203 X hP q1773 dX8_bed_57 ?_
      refine lv_bipush (v := 8) X.1 X.2.1 dX8_bed_60 (by decide) ?_
      refine ph_iload_n (n := 1) X hl dX8_bed_62 rfl rfl ?_
      refine lv_iadd X.1 X.2.1 dX8_bed_63 ?_
      refine ph_iload_n (n := 1) X hl dX8_bed_64 rfl rfl ?_
      refine lv_iconst (v := 1) X.1 X.2.1 dX8_bed_65 (by decide) ?_
      refine lv_icmp_ne (tgt := 74) X.1 X.2.1 dX8_bed_66 (by decide) (fun c25 => ?_) (fun c25 => ?_)
      · have hF := hF.1 c25
        refine ph_iload_n (n := 1) X hl dX8_bed_74 rfl rfl ?_
        refine lv_iconst (v := 2) X.1 X.2.1 dX8_bed_75 (by decide) ?_
        refine lv_icmp_ne (tgt := 83) X.1 X.2.1 dX8_bed_76 (by decide) (fun c22 => ?_) (fun c22 => ?_)
        · have hF := hF.1 c22
          refine ph_iload_n (n := 1) X hl dX8_bed_83 rfl rfl ?_
          refine lv_iconst (v := 3) X.1 X.2.1 dX8_bed_84 (by decide) ?_
          refine lv_icmp_ne (tgt := 94) X.1 X.2.1 dX8_bed_85 (by decide) (fun c19 => ?_) (fun c19 => ?_)
          · have hF := hF.1 c19
            refine ph_iload_n (n := 1) X hl dX8_bed_94 rfl rfl ?_
            refine lv_iconst (v := 4) X.1 X.2.1 dX8_bed_95 (by decide) ?_
            refine lv_icmp_ne (tgt := 104) X.1 X.2.1 dX8_bed_96 (by decide) (fun c16 => ?_) (fun c16 => ?_)
            · have hF := hF.1 c16
              refine lv_iconst (v := 0) X.1 X.2.1 dX8_bed_104 (by decide) ?_
              obtain ⟨hr13, hF⟩ := hF
              refine tw_ast 3 (n := 16) X hP hr13 (k := (8 + x2).toNatClampNeg) rfl dX8_bed_105 hF (fun H locs σ12 hP hF => ?_)
              refine ph_iinc (v := x2 + 1) (k := 1) X hl dX8_bed_106 rfl rfl (by decide) rfl (fun ls hl => ?_)
              refine lv_goto (tgt := 50) X.1 X.2.1 dX8_bed_109 (by decide) ?_
              exact ih _ _ _ _ _ hF hP (lh_sub hl [1, 0] rfl)
            · have hF := hF.2 c16
              refine lv_bipush (v := 15) X.1 X.2.1 dX8_bed_99 (by decide) ?_
              refine lv_goto (tgt := 105) X.1 X.2.1 dX8_bed_101 (by decide) ?_
              obtain ⟨hr15, hF⟩ := hF
              refine tw_ast 3 (n := 16) X hP hr15 (k := (8 + x2).toNatClampNeg) rfl dX8_bed_105 hF (fun H locs σ14 hP hF => ?_)
              refine ph_iinc (v := x2 + 1) (k := 1) X hl dX8_bed_106 rfl rfl (by decide) rfl (fun ls hl => ?_)
              refine lv_goto (tgt := 50) X.1 X.2.1 dX8_bed_109 (by decide) ?_
              exact ih _ _ _ _ _ hF hP (lh_sub hl [1, 0] rfl)
          · have hF := hF.2 c19
            refine lv_sipush (v := 480) X.1 X.2.1 dX8_bed_88 (by decide) ?_
            refine lv_goto (tgt := 105) X.1 X.2.1 dX8_bed_91 (by decide) ?_
            obtain ⟨hr18, hF⟩ := hF
            refine tw_ast 3 (n := 16) X hP hr18 (k := (8 + x2).toNatClampNeg) rfl dX8_bed_105 hF (fun H locs σ17 hP hF => ?_)
            refine ph_iinc (v := x2 + 1) (k := 1) X hl dX8_bed_106 rfl rfl (by decide) rfl (fun ls hl => ?_)
            refine lv_goto (tgt := 50) X.1 X.2.1 dX8_bed_109 (by decide) ?_
            exact ih _ _ _ _ _ hF hP (lh_sub hl [1, 0] rfl)
        · have hF := hF.2 c22
          refine lv_iconst (v := 3) X.1 X.2.1 dX8_bed_79 (by decide) ?_
          refine lv_goto (tgt := 105) X.1 X.2.1 dX8_bed_80 (by decide) ?_
          obtain ⟨hr21, hF⟩ := hF
          refine tw_ast 3 (n := 16) X hP hr21 (k := (8 + x2).toNatClampNeg) rfl dX8_bed_105 hF (fun H locs σ20 hP hF => ?_)
          refine ph_iinc (v := x2 + 1) (k := 1) X hl dX8_bed_106 rfl rfl (by decide) rfl (fun ls hl => ?_)
          refine lv_goto (tgt := 50) X.1 X.2.1 dX8_bed_109 (by decide) ?_
          exact ih _ _ _ _ _ hF hP (lh_sub hl [1, 0] rfl)
      · have hF := hF.2 c25
        refine lv_bipush (v := 20) X.1 X.2.1 dX8_bed_69 (by decide) ?_
        refine lv_goto (tgt := 105) X.1 X.2.1 dX8_bed_71 (by decide) ?_
        obtain ⟨hr24, hF⟩ := hF
        refine tw_ast 3 (n := 16) X hP hr24 (k := (8 + x2).toNatClampNeg) rfl dX8_bed_105 hF (fun H locs σ23 hP hF => ?_)
        refine ph_iinc (v := x2 + 1) (k := 1) X hl dX8_bed_106 rfl rfl (by decide) rfl (fun ls hl => ?_)
        refine lv_goto (tgt := 50) X.1 X.2.1 dX8_bed_109 (by decide) ?_
        exact ih _ _ _ _ _ hF hP (lh_sub hl [1, 0] rfl)
set_option maxHeartbeats 2000000 in
theorem met_X8_bed (l : Launch) (D : va_G) (dA : Nat → ClassId) (ad : Nat → Nat) (σ : S) (sz : Nat) {a1 : Int32} {Q : Int32 → S → Prop} (hF : P_X8_bed a1 σ Q) : CTi l yX8_bed cX8_bed 3 .int ({ frames := 122, cells := 0, slots := 0, locals := 2885 } : Room) D dA ad σ sz [pX 200, iX a1] Q := by
  unfold P_X8_bed at hF
  refine ph_enter [pX 200, iX a1] (Qc := fun A => va_Qi (TQi Q) (CB D dA ad A) A) (by decide +kernel) (Nat.le_of_ble_eq_true rfl) ?_
  intro p e s m args below meth c A ls X hP hl hnm
  have hl : LH ad ls 3 [(0, pX 200), (1, iX a1)] := hl
  refine ph_aload_n (n := 0) X hl dX8_bed_0 rfl rfl ?_
  refine lv_iconst (v := 0) X.1 X.2.1 dX8_bed_1 (by decide) ?_
  refine tw_puti 2 X hP q1772 dX8_bed_2 hF (fun H locs σ27 hP hF => ?_)
  refine ph_iload_n (n := 1) X hl dX8_bed_5 rfl rfl ?_
  refine lv_if_lt (tgt := 17) X.1 X.2.1 dX8_bed_6 (by decide) (fun c38 => ?_) (fun c38 => ?_)
  · have hF := hF.1 c38
    refine ph_aload_n (n := 0) X hl dX8_bed_17 rfl rfl ?_
    refine lv_iconst (v := 1) X.1 X.2.1 dX8_bed_18 (by decide) ?_
    refine tw_callVi [iX 1] X hP (met_X8_fail l D dA ad _ _ hF) (cwV 1 X.2.2.2.2.1 (lw_V q2002 q2004 qs44 q126 q2005) rfl rfl rfl (by decide +kernel) ⟨Nat.le_of_ble_eq_true rfl, Nat.le_of_ble_eq_true rfl⟩) rfl hl (k8 := 0) (cs0 (k := 0)) (by decide) ⟨Nat.le_refl _, Nat.le_refl _⟩ dX8_bed_19 rfl (fun r29 σ28 H locs hF hP => ?_)
    exact tw_iret X hP hF dX8_bed_22
  · have hF := hF.2 c38
    refine ph_iload_n (n := 1) X hl dX8_bed_9 rfl rfl ?_
    refine ph_aload_n (n := 0) X hl dX8_bed_10 rfl rfl ?_
    refine tw_geti 14 X hP q1784 dX8_bed_11 ?_
    refine lv_icmp_le (tgt := 23) X.1 X.2.1 dX8_bed_14 (by decide) (fun c37 => ?_) (fun c37 => ?_)
    · have hF := hF.1 c37
      refine ph_aload_n (n := 0) X hl dX8_bed_23 rfl rfl ?_
      refine lv_iconst (v := 0) X.1 X.2.1 dX8_bed_24 (by decide) ?_
      refine tw_puti 14 X hP q1784 dX8_bed_25 hF (fun H locs σ30 hP hF => ?_)
      refine ph_aload_n (n := 0) X hl dX8_bed_28 rfl rfl ?_
      refine ph_iload_n (n := 1) X hl dX8_bed_29 rfl rfl ?_
      refine tw_puti 16 X hP q1786 dX8_bed_30 hF (fun H locs σ31 hP hF => ?_)
      refine ph_aload_n (n := 0) X hl dX8_bed_33 rfl rfl ?_
      refine lv_iconst (v := 0) X.1 X.2.1 dX8_bed_34 (by decide) ?_
      refine tw_puti 15 X hP q1785 dX8_bed_35 hF (fun H locs σ32 hP hF => ?_)
      refine ph_aload_n (n := 0) X hl dX8_bed_38 rfl rfl ?_
      refine lv_iconst (v := 0) X.1 X.2.1 dX8_bed_39 (by decide) ?_
      refine tw_puti 21 X hP q1791 dX8_bed_40 hF (fun H locs σ33 hP hF => ?_)
      refine ph_aload_n (n := 0) X hl dX8_bed_43 rfl rfl ?_
      refine lv_iconst (v := (-1)) X.1 X.2.1 dX8_bed_44 (by decide) ?_
      refine tw_puti 23 X hP q1793 dX8_bed_45 hF (fun H locs σ34 hP hF => ?_)
      refine lv_iconst (v := 0) X.1 X.2.1 dX8_bed_48 (by decide) ?_
      refine ph_istore_n X hl dX8_bed_49 rfl (by decide) rfl (fun ls hl => ?_)
      obtain ⟨n9, hF⟩ := hF
      exact w_X8_bed_50 X n9 _ _ _ _ _ hF hP (lh_sub hl [1, 0] rfl)
    · have hF := hF.2 c37
      refine ph_aload_n (n := 0) X hl dX8_bed_17 rfl rfl ?_
      refine lv_iconst (v := 1) X.1 X.2.1 dX8_bed_18 (by decide) ?_
      refine tw_callVi [iX 1] X hP (met_X8_fail l D dA ad _ _ hF) (cwV 1 X.2.2.2.2.1 (lw_V q2002 q2004 qs44 q126 q2005) rfl rfl rfl (by decide +kernel) ⟨Nat.le_of_ble_eq_true rfl, Nat.le_of_ble_eq_true rfl⟩) rfl hl (k8 := 0) (cs0 (k := 0)) (by decide) ⟨Nat.le_refl _, Nat.le_refl _⟩ dX8_bed_19 rfl (fun r36 σ35 H locs hF hP => ?_)
      exact tw_iret X hP hF dX8_bed_22
def P_X8_orderOn_147 (rs : Int32 → Int32 → Int32 → S → (S → Prop) → Prop) (Q : S → Prop) (k93 : Int32 → Int32 → Int32 → Int32 → S → Prop) (x1 : Int32) (x2 : Int32) (x3 : Int32) (x4 : Int32) (σ : S) : Prop := (vp_in x1 7 ∧ (∀ σ1, σ1 = up2 σ 18 x1.toNatClampNeg x4 → (rs (x1 + 1) (x2 &&& ((1 <<< ((x4 : Int32) &&& 31)) ^^^ (-1))) x3 σ1 (fun σ3 => (k93 x1 x2 x3 (x4 + 1) σ3)))))
def P_X8_orderOn_93 (rs : Int32 → Int32 → Int32 → S → (S → Prop) → Prop) (Q : S → Prop) : Nat → Int32 → Int32 → Int32 → Int32 → S → Prop
  | 0, _, _, _, _, _ => False
  | n + 1, x1, x2, x3, x4, σ => (((σ 3 0) ≤ x4 → (Q σ)) ∧ (¬ (σ 3 0) ≤ x4 → ((((x2 >>> ((x4 : Int32) &&& 31)) &&& 1) = 0 → (P_X8_orderOn_93 rs Q  n x1 x2 x3 (x4 + 1) σ)) ∧ (¬ ((x2 >>> ((x4 : Int32) &&& 31)) &&& 1) = 0 → ((2 ≤ x3 → (P_X8_orderOn_147 rs Q (fun z0 z1 z2 z3 z4 => P_X8_orderOn_93 rs Q  n z0 z1 z2 z3 z4) x1 x2 x3 x4 σ)) ∧ (¬ 2 ≤ x3 → ((x1 ≤ 0 → (P_X8_orderOn_147 rs Q (fun z0 z1 z2 z3 z4 => P_X8_orderOn_93 rs Q  n z0 z1 z2 z3 z4) x1 x2 x3 x4 σ)) ∧ (¬ x1 ≤ 0 → (vp_in (x1 - 1) 7 ∧ (vp_in (σ 18 ((x1 - 1).toNatClampNeg)) 14 ∧ ((¬ (((σ 10 ((σ 18 ((x1 - 1).toNatClampNeg)).toNatClampNeg)) >>> ((x4 : Int32) &&& 31)) &&& 1) = 1 → (P_X8_orderOn_147 rs Q (fun z0 z1 z2 z3 z4 => P_X8_orderOn_93 rs Q  n z0 z1 z2 z3 z4) x1 x2 x3 x4 σ)) ∧ ((((σ 10 ((σ 18 ((x1 - 1).toNatClampNeg)).toNatClampNeg)) >>> ((x4 : Int32) &&& 31)) &&& 1) = 1 → (P_X8_orderOn_93 rs Q  n x1 x2 x3 (x4 + 1) σ)))))))))))))
def P_X8_orderOn_60 (rs : Int32 → Int32 → Int32 → S → (S → Prop) → Prop) (Q : S → Prop) : Nat → Int32 → S → Prop
  | 0, _, _ => False
  | n + 1, x5, σ => (((σ 0 45) ≤ x5 → (Q σ)) ∧ (¬ (σ 0 45) ≤ x5 → (vp_in x5 7 ∧ (vp_in x5 7 ∧ (∀ σ13, σ13 = up2 σ 30 x5.toNatClampNeg (σ 18 x5.toNatClampNeg) → (P_X8_orderOn_60 rs Q  n (x5 + 1) σ13))))))
def P_X8_orderOn_31 (rs : Int32 → Int32 → Int32 → S → (S → Prop) → Prop) (Q : S → Prop) (y0 : Int32) (σ : S) : Prop := (((σ 0 56) ≤ 1 → (∀ σ16, σ16 = up2 σ 0 57 y0 → (∃ n9, P_X8_orderOn_60 rs Q n9 0 σ16))) ∧ (¬ (σ 0 56) ≤ 1 → ((y0 < (σ 0 57) → (∀ σ17, σ17 = up2 σ 0 57 y0 → (∃ n9, P_X8_orderOn_60 rs Q n9 0 σ17))) ∧ (¬ y0 < (σ 0 57) → (Q σ)))))
def P_X8_orderOn (rs : Int32 → Int32 → Int32 → S → (S → Prop) → Prop) (a1 : Int32) (a2 : Int32) (a3 : Int32) (σ : S) (Q : S → Prop) : Prop := ((¬ a1 = (σ 0 45) → (∃ n9, P_X8_orderOn_93 rs Q n9 a1 a2 a3 0 σ)) ∧ (a1 = (σ 0 45) → (∀ σ20, σ20 = up2 σ 0 56 ((σ 0 56) + 1) → ((¬ a3 = 0 → (P_X8_valueOf a3 σ20 (fun r22 σ21 => (P_X8_orderOn_31 rs Q r22 σ21)))) ∧ (a3 = 0 → (P_X8_orderOn_31 rs Q 0 σ20))))))
set_option maxHeartbeats 2000000 in
theorem w_X8_orderOn_147 {rs : Int32 → Int32 → Int32 → S → (S → Prop) → Prop} {F L : Nat} (X : CX p s m args c meth cX8_orderOn 6 none RX8 D dA ad A) (hrec : ∀ (σ : S) (sz : Nat) (a0 : Int32) (a1 : Int32) (a2 : Int32) (Q : S → Prop), rs a0 a1 a2 σ Q → CTv l yX8_orderOn cX8_orderOn 6 ({ frames := F, cells := 0, slots := 0, locals := L } : Room) D dA ad σ sz [pX 200, iX a0, iX a1, iX a2] Q) {Q : S → Prop} {k93 : Int32 → Int32 → Int32 → Int32 → S → Prop} (hk93 : ∀ (x1 : Int32) (x2 : Int32) (x3 : Int32) (x4 : Int32) (σ : S) (H : Heap) (locs : List Loc) (ls : Array Slot), k93 x1 x2 x3 x4 σ → PW D dA A s.heap ad (TH σ) H locs → LH ad ls 6 [(0, pX 200), (1, iX x1), (2, iX x2), (3, iX x3), (4, iX x4)] → WTv p l e ({ frames := F + 7, cells := 0, slots := 0, locals := L + 162 } : Room) s m args below meth c D dA ad A Q H locs (F0 m 93 ls [])) : ∀ (x1 : Int32) (x2 : Int32) (x3 : Int32) (x4 : Int32) (σ : S) (H : Heap) (locs : List Loc) (ls : Array Slot), P_X8_orderOn_147 rs Q k93 x1 x2 x3 x4 σ → PW D dA A s.heap ad (TH σ) H locs → LH ad ls 6 [(0, pX 200), (1, iX x1), (2, iX x2), (3, iX x3), (4, iX x4)] → WTv p l e ({ frames := F + 7, cells := 0, slots := 0, locals := L + 162 } : Room) s m args below meth c D dA ad A Q H locs (F0 m 147 ls []) := by
  intro x1 x2 x3 x4 σ H locs ls hF hP hl
  unfold P_X8_orderOn_147 at hF
  refine ph_aload_n (n := 0) X hl dX8_orderOn_147 rfl rfl ?_
  refine tw_getr 34 218 X hP q1804 dX8_orderOn_148 ?_
  refine ph_iload_n (n := 1) X hl dX8_orderOn_151 rfl rfl ?_
  refine ph_iload (n := 4) X hl dX8_orderOn_152 rfl ?_
  obtain ⟨hr2, hF⟩ := hF
  refine tw_ast 18 (n := 7) X hP hr2 (k := x1.toNatClampNeg) rfl dX8_orderOn_154 hF (fun H locs σ1 hP hF => ?_)
  refine ph_aload_n (n := 0) X hl dX8_orderOn_155 rfl rfl ?_
  refine ph_iload_n (n := 1) X hl dX8_orderOn_156 rfl rfl ?_
  refine lv_iconst (v := 1) X.1 X.2.1 dX8_orderOn_157 (by decide) ?_
  refine lv_iadd X.1 X.2.1 dX8_orderOn_158 ?_
  refine ph_iload_n (n := 2) X hl dX8_orderOn_159 rfl rfl ?_
  refine lv_iconst (v := 1) X.1 X.2.1 dX8_orderOn_160 (by decide) ?_
  refine ph_iload (n := 4) X hl dX8_orderOn_161 rfl ?_
  refine lv_ishl X.1 X.2.1 dX8_orderOn_163 ?_
  refine lv_iconst (v := (-1)) X.1 X.2.1 dX8_orderOn_164 (by decide) ?_
  refine lv_ixor X.1 X.2.1 dX8_orderOn_165 ?_
  refine lv_iand X.1 X.2.1 dX8_orderOn_166 ?_
  refine ph_iload_n (n := 3) X hl dX8_orderOn_167 rfl rfl ?_
  refine tw_callVv [iX (x1 + 1), iX (x2 &&& ((1 <<< ((x4 : Int32) &&& 31)) ^^^ (-1))), iX x3] X hP (hrec _ _ _ _ _ _ hF) (cwV 3 X.2.2.2.2.1 (lw_V q2284 q2286 qs91 q126 q2287) rfl rfl rfl (by decide +kernel) (by constructor <;> (dsimp only) <;> omega)) rfl hl (k8 := 0) (cs0 (k := 0)) (by decide) ⟨Nat.le_refl _, Nat.le_refl _⟩ dX8_orderOn_168 rfl (fun σ3 H locs hF hP => ?_)
  refine ph_iinc (v := x4 + 1) (k := 4) X hl dX8_orderOn_171 rfl rfl (by decide) rfl (fun ls hl => ?_)
  refine lv_goto (tgt := 93) X.1 X.2.1 dX8_orderOn_174 (by decide) ?_
  exact hk93 _ _ _ _ _ _ _ _ hF hP (lh_sub hl [1, 2, 3, 4, 0] rfl)
set_option maxHeartbeats 2000000 in
theorem w_X8_orderOn_93 {rs : Int32 → Int32 → Int32 → S → (S → Prop) → Prop} {F L : Nat} (X : CX p s m args c meth cX8_orderOn 6 none RX8 D dA ad A) (hrec : ∀ (σ : S) (sz : Nat) (a0 : Int32) (a1 : Int32) (a2 : Int32) (Q : S → Prop), rs a0 a1 a2 σ Q → CTv l yX8_orderOn cX8_orderOn 6 ({ frames := F, cells := 0, slots := 0, locals := L } : Room) D dA ad σ sz [pX 200, iX a0, iX a1, iX a2] Q) {Q : S → Prop} : ∀ (n : Nat) (x1 : Int32) (x2 : Int32) (x3 : Int32) (x4 : Int32) (σ : S) (H : Heap) (locs : List Loc) (ls : Array Slot), P_X8_orderOn_93 rs Q n x1 x2 x3 x4 σ → PW D dA A s.heap ad (TH σ) H locs → LH ad ls 6 [(0, pX 200), (1, iX x1), (2, iX x2), (3, iX x3), (4, iX x4)] → WTv p l e ({ frames := F + 7, cells := 0, slots := 0, locals := L + 162 } : Room) s m args below meth c D dA ad A Q H locs (F0 m 93 ls []) := by
  intro n
  induction n with
  | zero =>
    intro x1 x2 x3 x4 σ H locs ls hF
    exact hF.elim
  | succ n ih =>
    intro x1 x2 x3 x4 σ H locs ls hF hP hl
    rw [P_X8_orderOn_93] at hF
    refine ph_iload (n := 4) X hl dX8_orderOn_93 rfl ?_
    refine ph_aload_n (n := 0) X hl dX8_orderOn_95 rfl rfl ?_
    refine tw_getr 3 203 X hP q1773 dX8_orderOn_96 ?_
    refine lv_iconst (v := 0) X.1 X.2.1 dX8_orderOn_99 (by decide) ?_
    refine tw_ald 3 (n := 16) X hP (vin (by decide)) (k := 0) (by decide) dX8_orderOn_100 ?_
    refine lv_icmp_ge (tgt := 177) X.1 X.2.1 dX8_orderOn_101 (by decide) (fun c11 => ?_) (fun c11 => ?_)
    · have hF := hF.1 c11
      exact tw_vret X hP hF dX8_orderOn_177
    · have hF := hF.2 c11
      refine ph_iload_n (n := 2) X hl dX8_orderOn_104 rfl rfl ?_
      refine ph_iload (n := 4) X hl dX8_orderOn_105 rfl ?_
      refine lv_ishr X.1 X.2.1 dX8_orderOn_107 ?_
      refine lv_iconst (v := 1) X.1 X.2.1 dX8_orderOn_108 (by decide) ?_
      refine lv_iand X.1 X.2.1 dX8_orderOn_109 ?_
      refine lv_if_eq (tgt := 171) X.1 X.2.1 dX8_orderOn_110 (by decide) (fun c10 => ?_) (fun c10 => ?_)
      · have hF := hF.1 c10
        refine ph_iinc (v := x4 + 1) (k := 4) X hl dX8_orderOn_171 rfl rfl (by decide) rfl (fun ls hl => ?_)
        refine lv_goto (tgt := 93) X.1 X.2.1 dX8_orderOn_174 (by decide) ?_
        exact ih _ _ _ _ _ _ _ _ hF hP (lh_sub hl [1, 2, 3, 4, 0] rfl)
      · have hF := hF.2 c10
        refine ph_iload_n (n := 3) X hl dX8_orderOn_113 rfl rfl ?_
        refine lv_iconst (v := 2) X.1 X.2.1 dX8_orderOn_114 (by decide) ?_
        refine lv_icmp_ge (tgt := 147) X.1 X.2.1 dX8_orderOn_115 (by decide) (fun c9 => ?_) (fun c9 => ?_)
        · have hF := hF.1 c9
          exact w_X8_orderOn_147 X hrec ih _ _ _ _ _ _ _ _ hF hP hl
        · have hF := hF.2 c9
          refine ph_iload_n (n := 1) X hl dX8_orderOn_118 rfl rfl ?_
          refine lv_if_le (tgt := 147) X.1 X.2.1 dX8_orderOn_119 (by decide) (fun c8 => ?_) (fun c8 => ?_)
          · have hF := hF.1 c8
            exact w_X8_orderOn_147 X hrec ih _ _ _ _ _ _ _ _ hF hP hl
          · have hF := hF.2 c8
            refine ph_aload_n (n := 0) X hl dX8_orderOn_122 rfl rfl ?_
            refine tw_getr 10 210 X hP q1780 dX8_orderOn_123 ?_
            refine ph_aload_n (n := 0) X hl dX8_orderOn_126 rfl rfl ?_
            refine tw_getr 34 218 X hP q1804 dX8_orderOn_127 ?_
            refine ph_iload_n (n := 1) X hl dX8_orderOn_130 rfl rfl ?_
            refine lv_iconst (v := 1) X.1 X.2.1 dX8_orderOn_131 (by decide) ?_
            refine lv_isub X.1 X.2.1 dX8_orderOn_132 ?_
            obtain ⟨hr5, hF⟩ := hF
            refine tw_ald 18 (n := 7) X hP hr5 (k := (x1 - 1).toNatClampNeg) rfl dX8_orderOn_133 ?_
            obtain ⟨hr6, hF⟩ := hF
            refine tw_ald 10 (n := 14) X hP hr6 (k := (σ 18 ((x1 - 1).toNatClampNeg)).toNatClampNeg) rfl dX8_orderOn_134 ?_
            refine ph_iload (n := 4) X hl dX8_orderOn_135 rfl ?_
            refine lv_ishr X.1 X.2.1 dX8_orderOn_137 ?_
            refine lv_iconst (v := 1) X.1 X.2.1 dX8_orderOn_138 (by decide) ?_
            refine lv_iand X.1 X.2.1 dX8_orderOn_139 ?_
            refine lv_iconst (v := 1) X.1 X.2.1 dX8_orderOn_140 (by decide) ?_
            refine lv_icmp_ne (tgt := 147) X.1 X.2.1 dX8_orderOn_141 (by decide) (fun c7 => ?_) (fun c7 => ?_)
            · have hF := hF.1 c7
              exact w_X8_orderOn_147 X hrec ih _ _ _ _ _ _ _ _ hF hP hl
            · have hF := hF.2 c7
              refine lv_goto (tgt := 171) X.1 X.2.1 dX8_orderOn_144 (by decide) ?_
              refine ph_iinc (v := x4 + 1) (k := 4) X hl dX8_orderOn_171 rfl rfl (by decide) rfl (fun ls hl => ?_)
              refine lv_goto (tgt := 93) X.1 X.2.1 dX8_orderOn_174 (by decide) ?_
              exact ih _ _ _ _ _ _ _ _ hF hP (lh_sub hl [1, 2, 3, 4, 0] rfl)
set_option maxHeartbeats 2000000 in
theorem w_X8_orderOn_60 {rs : Int32 → Int32 → Int32 → S → (S → Prop) → Prop} {F L : Nat} (X : CX p s m args c meth cX8_orderOn 6 none RX8 D dA ad A) (hrec : ∀ (σ : S) (sz : Nat) (a0 : Int32) (a1 : Int32) (a2 : Int32) (Q : S → Prop), rs a0 a1 a2 σ Q → CTv l yX8_orderOn cX8_orderOn 6 ({ frames := F, cells := 0, slots := 0, locals := L } : Room) D dA ad σ sz [pX 200, iX a0, iX a1, iX a2] Q) {Q : S → Prop} : ∀ (n : Nat) (x5 : Int32) (σ : S) (H : Heap) (locs : List Loc) (ls : Array Slot), P_X8_orderOn_60 rs Q n x5 σ → PW D dA A s.heap ad (TH σ) H locs → LH ad ls 6 [(0, pX 200), (5, iX x5)] → WTv p l e ({ frames := F + 7, cells := 0, slots := 0, locals := L + 162 } : Room) s m args below meth c D dA ad A Q H locs (F0 m 60 ls []) := by
  intro n
  induction n with
  | zero =>
    intro x5 σ H locs ls hF
    exact hF.elim
  | succ n ih =>
    intro x5 σ H locs ls hF hP hl
    rw [P_X8_orderOn_60] at hF
    refine ph_iload (n := 1) X hl dX8_orderOn_60 rfl ?_
    refine ph_aload_n (n := 0) X hl dX8_orderOn_62 rfl rfl ?_
    refine tw_geti 45 X hP q1815 dX8_orderOn_63 ?_
    refine lv_icmp_ge (tgt := 89) X.1 X.2.1 dX8_orderOn_66 (by decide) (fun c15 => ?_) (fun c15 => ?_)
    · have hF := hF.1 c15
      exact tw_vret X hP hF dX8_orderOn_89
    · have hF := hF.2 c15
      refine ph_aload_n (n := 0) X hl dX8_orderOn_69 rfl rfl ?_
      refine tw_getr 55 230 X hP q1825 dX8_orderOn_70 ?_
      refine ph_iload (n := 1) X hl dX8_orderOn_73 rfl ?_
      refine ph_aload_n (n := 0) X hl dX8_orderOn_75 rfl rfl ?_
      refine tw_getr 34 218 X hP q1804 dX8_orderOn_76 ?_
      refine ph_iload (n := 1) X hl dX8_orderOn_79 rfl ?_
      obtain ⟨hr12, hF⟩ := hF
      refine tw_ald 18 (n := 7) X hP hr12 (k := x5.toNatClampNeg) rfl dX8_orderOn_81 ?_
      obtain ⟨hr14, hF⟩ := hF
      refine tw_ast 30 (n := 7) X hP hr14 (k := x5.toNatClampNeg) rfl dX8_orderOn_82 hF (fun H locs σ13 hP hF => ?_)
      refine ph_iinc (v := x5 + 1) (k := 1) X hl dX8_orderOn_83 rfl rfl (by decide) rfl (fun ls hl => ?_)
      refine lv_goto (tgt := 60) X.1 X.2.1 dX8_orderOn_86 (by decide) ?_
      exact ih _ _ _ _ _ hF hP (lh_sub hl [1, 0] rfl)
set_option maxHeartbeats 2000000 in
theorem w_X8_orderOn_31 {rs : Int32 → Int32 → Int32 → S → (S → Prop) → Prop} {F L : Nat} (X : CX p s m args c meth cX8_orderOn 6 none RX8 D dA ad A) (hrec : ∀ (σ : S) (sz : Nat) (a0 : Int32) (a1 : Int32) (a2 : Int32) (Q : S → Prop), rs a0 a1 a2 σ Q → CTv l yX8_orderOn cX8_orderOn 6 ({ frames := F, cells := 0, slots := 0, locals := L } : Room) D dA ad σ sz [pX 200, iX a0, iX a1, iX a2] Q) {Q : S → Prop} : ∀ (y0 : Int32) (σ : S) (H : Heap) (locs : List Loc) (ls : Array Slot), P_X8_orderOn_31 rs Q y0 σ → PW D dA A s.heap ad (TH σ) H locs → LH ad ls 6 [(0, pX 200)] → WTv p l e ({ frames := F + 7, cells := 0, slots := 0, locals := L + 162 } : Room) s m args below meth c D dA ad A Q H locs (F0 m 31 ls [.int y0]) := by
  intro y0 σ H locs ls hF hP hl
  unfold P_X8_orderOn_31 at hF
  refine ph_istore X hl dX8_orderOn_31 (by decide) rfl (fun ls hl => ?_)
  refine ph_aload_n (n := 1) X hl dX8_orderOn_33 rfl rfl ?_
  refine tw_geti 56 X hP q1826 dX8_orderOn_34 ?_
  refine lv_iconst (v := 1) X.1 X.2.1 dX8_orderOn_37 (by decide) ?_
  refine lv_icmp_le (tgt := 51) X.1 X.2.1 dX8_orderOn_38 (by decide) (fun c19 => ?_) (fun c19 => ?_)
  · have hF := hF.1 c19
    refine ph_aload_n (n := 1) X hl dX8_orderOn_51 rfl rfl ?_
    refine ph_iload (n := 0) X hl dX8_orderOn_52 rfl ?_
    refine tw_puti 57 X hP q1827 dX8_orderOn_54 hF (fun H locs σ16 hP hF => ?_)
    refine lv_iconst (v := 0) X.1 X.2.1 dX8_orderOn_57 (by decide) ?_
    refine ph_istore X hl dX8_orderOn_58 (by decide) rfl (fun ls hl => ?_)
    obtain ⟨n9, hF⟩ := hF
    exact w_X8_orderOn_60 X hrec n9 _ _ _ _ _ hF hP (lh_sub hl [2, 0] rfl)
  · have hF := hF.2 c19
    refine ph_iload (n := 0) X hl dX8_orderOn_41 rfl ?_
    refine ph_aload_n (n := 1) X hl dX8_orderOn_43 rfl rfl ?_
    refine tw_geti 57 X hP q1827 dX8_orderOn_44 ?_
    refine lv_icmp_lt (tgt := 51) X.1 X.2.1 dX8_orderOn_47 (by decide) (fun c18 => ?_) (fun c18 => ?_)
    · have hF := hF.1 c18
      refine ph_aload_n (n := 1) X hl dX8_orderOn_51 rfl rfl ?_
      refine ph_iload (n := 0) X hl dX8_orderOn_52 rfl ?_
      refine tw_puti 57 X hP q1827 dX8_orderOn_54 hF (fun H locs σ17 hP hF => ?_)
      refine lv_iconst (v := 0) X.1 X.2.1 dX8_orderOn_57 (by decide) ?_
      refine ph_istore X hl dX8_orderOn_58 (by decide) rfl (fun ls hl => ?_)
      obtain ⟨n9, hF⟩ := hF
      exact w_X8_orderOn_60 X hrec n9 _ _ _ _ _ hF hP (lh_sub hl [2, 0] rfl)
    · have hF := hF.2 c18
      exact tw_vret X hP hF dX8_orderOn_50
set_option maxHeartbeats 2000000 in
theorem met_X8_orderOn {rs : Int32 → Int32 → Int32 → S → (S → Prop) → Prop} {F L : Nat} (l : Launch) (D : va_G) (dA : Nat → ClassId) (ad : Nat → Nat) (hrec : ∀ (σ : S) (sz : Nat) (a0 : Int32) (a1 : Int32) (a2 : Int32) (Q : S → Prop), rs a0 a1 a2 σ Q → CTv l yX8_orderOn cX8_orderOn 6 ({ frames := F, cells := 0, slots := 0, locals := L } : Room) D dA ad σ sz [pX 200, iX a0, iX a1, iX a2] Q) (σ : S) (sz : Nat) {a1 : Int32} {a2 : Int32} {a3 : Int32} {Q : S → Prop} (hF : P_X8_orderOn rs a1 a2 a3 σ Q) : CTv l yX8_orderOn cX8_orderOn 6 ({ frames := F + 7, cells := 0, slots := 0, locals := L + 162 } : Room) D dA ad σ sz [pX 200, iX a1, iX a2, iX a3] Q := by
  unfold P_X8_orderOn at hF
  refine ph_enter [pX 200, iX a1, iX a2, iX a3] (Qc := fun A => va_Qv (TQv Q) (CB D dA ad A) A) (by decide +kernel) (Nat.le_of_ble_eq_true rfl) ?_
  intro p e s m args below meth c A ls X hP hl hnm
  have hl : LH ad ls 6 [(0, pX 200), (1, iX a1), (2, iX a2), (3, iX a3)] := hl
  refine ph_iload_n (n := 1) X hl dX8_orderOn_0 rfl rfl ?_
  refine ph_aload_n (n := 0) X hl dX8_orderOn_1 rfl rfl ?_
  refine tw_geti 45 X hP q1815 dX8_orderOn_2 ?_
  refine lv_icmp_ne (tgt := 90) X.1 X.2.1 dX8_orderOn_5 (by decide) (fun c24 => ?_) (fun c24 => ?_)
  · have hF := hF.1 c24
    refine lv_iconst (v := 0) X.1 X.2.1 dX8_orderOn_90 (by decide) ?_
    refine ph_istore X hl dX8_orderOn_91 (by decide) rfl (fun ls hl => ?_)
    obtain ⟨n9, hF⟩ := hF
    exact w_X8_orderOn_93 X hrec n9 _ _ _ _ _ _ _ _ hF hP (lh_sub hl [1, 2, 3, 4, 0] rfl)
  · have hF := hF.2 c24
    refine ph_aload_n (n := 0) X hl dX8_orderOn_8 rfl rfl ?_
    refine ph_dup_r X dX8_orderOn_9 ?_
    refine tw_geti 56 X hP q1826 dX8_orderOn_10 ?_
    refine lv_iconst (v := 1) X.1 X.2.1 dX8_orderOn_13 (by decide) ?_
    refine lv_iadd X.1 X.2.1 dX8_orderOn_14 ?_
    refine tw_puti 56 X hP q1826 dX8_orderOn_15 hF (fun H locs σ20 hP hF => ?_)
    refine ph_iload_n (n := 3) X hl dX8_orderOn_18 rfl rfl ?_
    refine lv_if_ne (tgt := 26) X.1 X.2.1 dX8_orderOn_19 (by decide) (fun c23 => ?_) (fun c23 => ?_)
    · have hF := hF.1 c23
      refine ph_aload_n (n := 0) X hl dX8_orderOn_26 rfl rfl ?_
      refine ph_iload_n (n := 3) X hl dX8_orderOn_27 rfl rfl ?_
      refine tw_callVi [iX a3] X hP (met_X8_valueOf l D dA ad _ _ hF) (cwV 1 X.2.2.2.2.1 (lw_V q2288 q2290 qs92 q126 q2291) rfl rfl rfl (by decide +kernel) (by constructor <;> (dsimp only) <;> omega)) rfl hl (k8 := 0) (cs0 (k := 0)) (by decide) ⟨Nat.le_refl _, Nat.le_refl _⟩ dX8_orderOn_28 rfl (fun r22 σ21 H locs hF hP => ?_)
      exact w_X8_orderOn_31 X hrec _ _ _ _ _ hF hP (lh_sub hl [0] rfl)
    · have hF := hF.2 c23
      refine lv_iconst (v := 0) X.1 X.2.1 dX8_orderOn_22 (by decide) ?_
      refine lv_goto (tgt := 31) X.1 X.2.1 dX8_orderOn_23 (by decide) ?_
      exact w_X8_orderOn_31 X hrec _ _ _ _ _ hF hP (lh_sub hl [0] rfl)
def P_X8_orderOnR : Nat → Int32 → Int32 → Int32 → S → (S → Prop) → Prop
  | 0, _, _, _, _, _ => False
  | d + 1, a0, a1, a2, σ, Q => P_X8_orderOn (P_X8_orderOnR d) a0 a1 a2 σ Q
theorem met_X8_orderOnR (l : Launch) (D : va_G) (dA : Nat → ClassId) (ad : Nat → Nat) : ∀ (d : Nat) (σ : S) (sz : Nat) (a0 : Int32) (a1 : Int32) (a2 : Int32) (Q : S → Prop), P_X8_orderOnR d a0 a1 a2 σ Q → CTv l yX8_orderOn cX8_orderOn 6 ({ frames := 7 * d, cells := 0, slots := 0, locals := 162 * d } : Room) D dA ad σ sz [pX 200, iX a0, iX a1, iX a2] Q := by
  intro d
  induction d with
  | zero =>
    intro σ sz a0 a1 a2 Q hF
    exact hF.elim
  | succ d ih =>
    intro σ sz a0 a1 a2 Q hF
    exact met_X8_orderOn (rs := P_X8_orderOnR d) (F := 7 * d) (L := 162 * d) l D dA ad ih σ sz hF

def P_X8_tellOrders (a1 : Int32) (σ : S) (Q : S → Prop) : Prop := (P_X8_set σ (fun σ1 => (∀ σ3, σ3 = up2 σ1 0 56 0 → (P_X8_orderOnR 9 0 ((1 <<< (((σ3 0 45) : Int32) &&& 31)) - 1) a1 σ3 (fun σ4 => (Q σ4))))))
set_option maxHeartbeats 2000000 in
theorem met_X8_tellOrders (l : Launch) (D : va_G) (dA : Nat → ClassId) (ad : Nat → Nat) (σ : S) (sz : Nat) {a1 : Int32} {Q : S → Prop} (hF : P_X8_tellOrders a1 σ Q) : CTv l yX8_tellOrders cX8_tellOrders 2 ({ frames := 64, cells := 0, slots := 0, locals := 1483 } : Room) D dA ad σ sz [pX 200, iX a1] Q := by
  unfold P_X8_tellOrders at hF
  refine ph_enter [pX 200, iX a1] (Qc := fun A => va_Qv (TQv Q) (CB D dA ad A) A) (by decide +kernel) (Nat.le_of_ble_eq_true rfl) ?_
  intro p e s m args below meth c A ls X hP hl hnm
  have hl : LH ad ls 2 [(0, pX 200), (1, iX a1)] := hl
  refine ph_aload_n (n := 0) X hl dX8_tellOrders_0 rfl rfl ?_
  refine tw_callVv [] X hP (met_X8_set l D dA ad _ _ hF) (cwV 0 X.2.2.2.2.1 (lw_V q2128 q2130 qs67 q126 q2131) rfl rfl rfl (by decide +kernel) ⟨Nat.le_of_ble_eq_true rfl, Nat.le_of_ble_eq_true rfl⟩) rfl hl (k8 := 0) (cs0 (k := 0)) (by decide) ⟨Nat.le_refl _, Nat.le_refl _⟩ dX8_tellOrders_1 rfl (fun σ1 H locs hF hP => ?_)
  refine ph_aload_n (n := 0) X hl dX8_tellOrders_4 rfl rfl ?_
  refine lv_iconst (v := 0) X.1 X.2.1 dX8_tellOrders_5 (by decide) ?_
  refine tw_puti 56 X hP q1826 dX8_tellOrders_6 hF (fun H locs σ3 hP hF => ?_)
  refine ph_aload_n (n := 0) X hl dX8_tellOrders_9 rfl rfl ?_
  refine lv_iconst (v := 0) X.1 X.2.1 dX8_tellOrders_10 (by decide) ?_
  refine lv_iconst (v := 1) X.1 X.2.1 dX8_tellOrders_11 (by decide) ?_
  refine ph_aload_n (n := 0) X hl dX8_tellOrders_12 rfl rfl ?_
  refine tw_geti 45 X hP q1815 dX8_tellOrders_13 ?_
  refine lv_ishl X.1 X.2.1 dX8_tellOrders_16 ?_
  refine lv_iconst (v := 1) X.1 X.2.1 dX8_tellOrders_17 (by decide) ?_
  refine lv_isub X.1 X.2.1 dX8_tellOrders_18 ?_
  refine ph_iload_n (n := 1) X hl dX8_tellOrders_19 rfl rfl ?_
  refine tw_callVv [iX 0, iX ((1 <<< (((σ3 0 45) : Int32) &&& 31)) - 1), iX a1] X hP (met_X8_orderOnR l D dA ad 9 _ _ _ _ _ _ hF) (cwV 3 X.2.2.2.2.1 (lw_V q2284 q2286 qs91 q126 q2287) rfl rfl rfl (by decide +kernel) ⟨Nat.le_of_ble_eq_true rfl, Nat.le_of_ble_eq_true rfl⟩) rfl hl (k8 := 0) (cs0 (k := 0)) (by decide) ⟨Nat.le_refl _, Nat.le_refl _⟩ dX8_tellOrders_20 rfl (fun σ4 H locs hF hP => ?_)
  exact tw_vret X hP hF dX8_tellOrders_23
def P_X8_orders  (σ : S) (Q : Int32 → S → Prop) : Prop := (∀ σ1, σ1 = up2 σ 0 2 0 → (((σ1 3 0) ≤ 6 → (P_X8_tellOrders 0 σ1 (fun σ2 => (Q (σ2 0 56) σ2)))) ∧ (¬ (σ1 3 0) ≤ 6 → (Q (-2) σ1))))
set_option maxHeartbeats 2000000 in
theorem met_X8_orders (l : Launch) (D : va_G) (dA : Nat → ClassId) (ad : Nat → Nat) (σ : S) (sz : Nat) {Q : Int32 → S → Prop} (hF : P_X8_orders  σ Q) : CTi l yX8_orders cX8_orders 1 .int ({ frames := 65, cells := 0, slots := 0, locals := 1504 } : Room) D dA ad σ sz [pX 200] Q := by
  unfold P_X8_orders at hF
  refine ph_enter [pX 200] (Qc := fun A => va_Qi (TQi Q) (CB D dA ad A) A) (by decide +kernel) (Nat.le_of_ble_eq_true rfl) ?_
  intro p e s m args below meth c A ls X hP hl hnm
  have hl : LH ad ls 1 [(0, pX 200)] := hl
  refine ph_aload_n (n := 0) X hl dX8_orders_0 rfl rfl ?_
  refine lv_iconst (v := 0) X.1 X.2.1 dX8_orders_1 (by decide) ?_
  refine tw_puti 2 X hP q1772 dX8_orders_2 hF (fun H locs σ1 hP hF => ?_)
  refine ph_aload_n (n := 0) X hl dX8_orders_5 rfl rfl ?_
  refine tw_getr 3 203 X hP q1773 dX8_orders_6 ?_
  refine lv_iconst (v := 0) X.1 X.2.1 dX8_orders_9 (by decide) ?_
  refine tw_ald 3 (n := 16) X hP (vin (by decide)) (k := 0) (by decide) dX8_orders_10 ?_
  refine lv_bipush (v := 6) X.1 X.2.1 dX8_orders_11 (by decide) ?_
  refine lv_icmp_le (tgt := 19) X.1 X.2.1 dX8_orders_13 (by decide) (fun c4 => ?_) (fun c4 => ?_)
  · have hF := hF.1 c4
    refine ph_aload_n (n := 0) X hl dX8_orders_19 rfl rfl ?_
    refine lv_iconst (v := 0) X.1 X.2.1 dX8_orders_20 (by decide) ?_
    refine tw_callVv [iX 0] X hP (met_X8_tellOrders l D dA ad _ _ hF) (cwV 1 X.2.2.2.2.1 (lw_V q2280 q2282 qs90 q126 q2283) rfl rfl rfl (by decide +kernel) ⟨Nat.le_of_ble_eq_true rfl, Nat.le_of_ble_eq_true rfl⟩) rfl hl (k8 := 0) (cs0 (k := 0)) (by decide) ⟨Nat.le_refl _, Nat.le_refl _⟩ dX8_orders_21 rfl (fun σ2 H locs hF hP => ?_)
    refine ph_aload_n (n := 0) X hl dX8_orders_24 rfl rfl ?_
    refine tw_geti 56 X hP q1826 dX8_orders_25 ?_
    exact tw_iret X hP hF dX8_orders_28
  · have hF := hF.2 c4
    refine lv_bipush (v := (-2)) X.1 X.2.1 dX8_orders_16 (by decide) ?_
    exact tw_iret X hP hF dX8_orders_18
def P_X8_order  (σ : S) (Q : Int32 → S → Prop) : Prop := (∀ σ1, σ1 = up2 σ 0 2 0 → (((σ1 3 0) ≤ 6 → (P_X8_tellOrders 1 σ1 (fun σ2 => ((¬ (σ2 0 56) = 0 → (P_X8_keepBest σ2 (fun σ4 => (Q (σ4 0 57) σ4)))) ∧ ((σ2 0 56) = 0 → (Q (-1) σ2)))))) ∧ (¬ (σ1 3 0) ≤ 6 → (Q (-2) σ1))))
set_option maxHeartbeats 2000000 in
theorem met_X8_order (l : Launch) (D : va_G) (dA : Nat → ClassId) (ad : Nat → Nat) (σ : S) (sz : Nat) {Q : Int32 → S → Prop} (hF : P_X8_order  σ Q) : CTi l yX8_order cX8_order 1 .int ({ frames := 65, cells := 0, slots := 0, locals := 1504 } : Room) D dA ad σ sz [pX 200] Q := by
  unfold P_X8_order at hF
  refine ph_enter [pX 200] (Qc := fun A => va_Qi (TQi Q) (CB D dA ad A) A) (by decide +kernel) (Nat.le_of_ble_eq_true rfl) ?_
  intro p e s m args below meth c A ls X hP hl hnm
  have hl : LH ad ls 1 [(0, pX 200)] := hl
  refine ph_aload_n (n := 0) X hl dX8_order_0 rfl rfl ?_
  refine lv_iconst (v := 0) X.1 X.2.1 dX8_order_1 (by decide) ?_
  refine tw_puti 2 X hP q1772 dX8_order_2 hF (fun H locs σ1 hP hF => ?_)
  refine ph_aload_n (n := 0) X hl dX8_order_5 rfl rfl ?_
  refine tw_getr 3 203 X hP q1773 dX8_order_6 ?_
  refine lv_iconst (v := 0) X.1 X.2.1 dX8_order_9 (by decide) ?_
  refine tw_ald 3 (n := 16) X hP (vin (by decide)) (k := 0) (by decide) dX8_order_10 ?_
  refine lv_bipush (v := 6) X.1 X.2.1 dX8_order_11 (by decide) ?_
  refine lv_icmp_le (tgt := 19) X.1 X.2.1 dX8_order_13 (by decide) (fun c7 => ?_) (fun c7 => ?_)
  · have hF := hF.1 c7
    refine ph_aload_n (n := 0) X hl dX8_order_19 rfl rfl ?_
    refine lv_iconst (v := 1) X.1 X.2.1 dX8_order_20 (by decide) ?_
    refine tw_callVv [iX 1] X hP (met_X8_tellOrders l D dA ad _ _ hF) (cwV 1 X.2.2.2.2.1 (lw_V q2280 q2282 qs90 q126 q2283) rfl rfl rfl (by decide +kernel) ⟨Nat.le_of_ble_eq_true rfl, Nat.le_of_ble_eq_true rfl⟩) rfl hl (k8 := 0) (cs0 (k := 0)) (by decide) ⟨Nat.le_refl _, Nat.le_refl _⟩ dX8_order_21 rfl (fun σ2 H locs hF hP => ?_)
    refine ph_aload_n (n := 0) X hl dX8_order_24 rfl rfl ?_
    refine tw_geti 56 X hP q1826 dX8_order_25 ?_
    refine lv_if_ne (tgt := 33) X.1 X.2.1 dX8_order_28 (by decide) (fun c6 => ?_) (fun c6 => ?_)
    · have hF := hF.1 c6
      refine ph_aload_n (n := 0) X hl dX8_order_33 rfl rfl ?_
      refine tw_callVv [] X hP (met_X8_keepBest l D dA ad _ _ hF) (cwV 0 X.2.2.2.2.1 (lw_V q2300 q2302 qs94 q126 q2303) rfl rfl rfl (by decide +kernel) ⟨Nat.le_of_ble_eq_true rfl, Nat.le_of_ble_eq_true rfl⟩) rfl hl (k8 := 0) (cs0 (k := 0)) (by decide) ⟨Nat.le_refl _, Nat.le_refl _⟩ dX8_order_34 rfl (fun σ4 H locs hF hP => ?_)
      refine ph_aload_n (n := 0) X hl dX8_order_37 rfl rfl ?_
      refine tw_geti 57 X hP q1827 dX8_order_38 ?_
      exact tw_iret X hP hF dX8_order_41
    · have hF := hF.2 c6
      refine lv_iconst (v := (-1)) X.1 X.2.1 dX8_order_31 (by decide) ?_
      exact tw_iret X hP hF dX8_order_32
  · have hF := hF.2 c7
    refine lv_bipush (v := (-2)) X.1 X.2.1 dX8_order_16 (by decide) ?_
    exact tw_iret X hP hF dX8_order_18
def P_X8_edge  (σ : S) (Q : Int32 → S → Prop) : Prop := (∀ σ1, σ1 = up2 σ 0 2 0 → (((σ1 3 0) ≤ 6 → (P_X8_tellOrders 2 σ1 (fun σ2 => (P_X8_keepBest σ2 (fun σ4 => (Q (σ4 0 57) σ4)))))) ∧ (¬ (σ1 3 0) ≤ 6 → (Q (-2) σ1))))
set_option maxHeartbeats 2000000 in
theorem met_X8_edge (l : Launch) (D : va_G) (dA : Nat → ClassId) (ad : Nat → Nat) (σ : S) (sz : Nat) {Q : Int32 → S → Prop} (hF : P_X8_edge  σ Q) : CTi l yX8_edge cX8_edge 1 .int ({ frames := 65, cells := 0, slots := 0, locals := 1504 } : Room) D dA ad σ sz [pX 200] Q := by
  unfold P_X8_edge at hF
  refine ph_enter [pX 200] (Qc := fun A => va_Qi (TQi Q) (CB D dA ad A) A) (by decide +kernel) (Nat.le_of_ble_eq_true rfl) ?_
  intro p e s m args below meth c A ls X hP hl hnm
  have hl : LH ad ls 1 [(0, pX 200)] := hl
  refine ph_aload_n (n := 0) X hl dX8_edge_0 rfl rfl ?_
  refine lv_iconst (v := 0) X.1 X.2.1 dX8_edge_1 (by decide) ?_
  refine tw_puti 2 X hP q1772 dX8_edge_2 hF (fun H locs σ1 hP hF => ?_)
  refine ph_aload_n (n := 0) X hl dX8_edge_5 rfl rfl ?_
  refine tw_getr 3 203 X hP q1773 dX8_edge_6 ?_
  refine lv_iconst (v := 0) X.1 X.2.1 dX8_edge_9 (by decide) ?_
  refine tw_ald 3 (n := 16) X hP (vin (by decide)) (k := 0) (by decide) dX8_edge_10 ?_
  refine lv_bipush (v := 6) X.1 X.2.1 dX8_edge_11 (by decide) ?_
  refine lv_icmp_le (tgt := 19) X.1 X.2.1 dX8_edge_13 (by decide) (fun c6 => ?_) (fun c6 => ?_)
  · have hF := hF.1 c6
    refine ph_aload_n (n := 0) X hl dX8_edge_19 rfl rfl ?_
    refine lv_iconst (v := 2) X.1 X.2.1 dX8_edge_20 (by decide) ?_
    refine tw_callVv [iX 2] X hP (met_X8_tellOrders l D dA ad _ _ hF) (cwV 1 X.2.2.2.2.1 (lw_V q2280 q2282 qs90 q126 q2283) rfl rfl rfl (by decide +kernel) ⟨Nat.le_of_ble_eq_true rfl, Nat.le_of_ble_eq_true rfl⟩) rfl hl (k8 := 0) (cs0 (k := 0)) (by decide) ⟨Nat.le_refl _, Nat.le_refl _⟩ dX8_edge_21 rfl (fun σ2 H locs hF hP => ?_)
    refine ph_aload_n (n := 0) X hl dX8_edge_24 rfl rfl ?_
    refine tw_callVv [] X hP (met_X8_keepBest l D dA ad _ _ hF) (cwV 0 X.2.2.2.2.1 (lw_V q2300 q2302 qs94 q126 q2303) rfl rfl rfl (by decide +kernel) ⟨Nat.le_of_ble_eq_true rfl, Nat.le_of_ble_eq_true rfl⟩) rfl hl (k8 := 0) (cs0 (k := 0)) (by decide) ⟨Nat.le_refl _, Nat.le_refl _⟩ dX8_edge_25 rfl (fun σ4 H locs hF hP => ?_)
    refine ph_aload_n (n := 0) X hl dX8_edge_28 rfl rfl ?_
    refine tw_geti 57 X hP q1827 dX8_edge_29 ?_
    exact tw_iret X hP hF dX8_edge_32
  · have hF := hF.2 c6
    refine lv_bipush (v := (-2)) X.1 X.2.1 dX8_edge_16 (by decide) ?_
    exact tw_iret X hP hF dX8_edge_18
end TWA
