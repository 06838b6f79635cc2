set_option maxRecDepth 100000
section TWA
variable {p : Program} {l : Launch} {e : Env} {s : State} {m : MethodId} {args : Array Value} {below : List Frame} {meth : Method} {c : Code} {D : va_G} {dA : Nat → ClassId} {ad : Nat → Nat} {A : Nat → Prop}
def P_X8_isIn (a0 : Int64) (a2 : Int64) (a4 : Int64) (σ : S) (Q : Int32 → S → Prop) : Prop := (((lg_cmp a0 a2) < 0 → (Q 0 σ)) ∧ (¬ (lg_cmp a0 a2) < 0 → ((0 < (lg_cmp a0 a4) → (Q 0 σ)) ∧ (¬ 0 < (lg_cmp a0 a4) → (Q 1 σ)))))
set_option maxHeartbeats 2000000 in
theorem met_X8_isIn (l : Launch) (D : va_G) (dA : Nat → ClassId) (ad : Nat → Nat) (σ : S) (sz : Nat) {a0 : Int64} {a2 : Int64} {a4 : Int64} {Q : Int32 → S → Prop} (hF : P_X8_isIn a0 a2 a4 σ Q) : CTi l yX8_isIn cX8_isIn 6 .boolean ({ frames := 0, cells := 0, slots := 0, locals := 0 } : Room) D dA ad σ sz [lX a0, lX a2, lX a4] Q := by
  unfold P_X8_isIn at hF
  refine ph_enter [lX a0, lX a2, lX a4] (Qc := fun A => va_Qi (TQi Q) (CB D dA ad A) A) (by decide +kernel) (Nat.le_of_ble_eq_true rfl) ?_
  intro p e s m args below meth c A ls X hP hl hnm
  have hl : LH ad ls 6 [(0, lX a0), (2, lX a2), (4, lX a4)] := hl
  refine ph_lload_n (n := 0) X hl dX8_isIn_0 rfl rfl ?_
  refine ph_lload_n (n := 1) X hl dX8_isIn_1 rfl rfl ?_
  refine W.lcmp X.1 X.2.1 dX8_isIn_2 ?_
  refine lv_if_lt (tgt := 17) X.1 X.2.1 dX8_isIn_3 (by decide) (fun c2 => ?_) (fun c2 => ?_)
  · have hF := hF.1 c2
    refine lv_iconst (v := 0) X.1 X.2.1 dX8_isIn_17 (by decide) ?_
    exact tw_zret X hP isB_0 hF dX8_isIn_18
  · have hF := hF.2 c2
    refine ph_lload_n (n := 0) X hl dX8_isIn_6 rfl rfl ?_
    refine ph_lload (n := 2) X hl dX8_isIn_7 rfl ?_
    refine W.lcmp X.1 X.2.1 dX8_isIn_9 ?_
    refine lv_if_gt (tgt := 17) X.1 X.2.1 dX8_isIn_10 (by decide) (fun c1 => ?_) (fun c1 => ?_)
    · have hF := hF.1 c1
      refine lv_iconst (v := 0) X.1 X.2.1 dX8_isIn_17 (by decide) ?_
      exact tw_zret X hP isB_0 hF dX8_isIn_18
    · have hF := hF.2 c1
      refine lv_iconst (v := 1) X.1 X.2.1 dX8_isIn_13 (by decide) ?_
      refine lv_goto (tgt := 18) X.1 X.2.1 dX8_isIn_14 (by decide) ?_
      exact tw_zret X hP isB_1 hF dX8_isIn_18
def P_X8_isSleeper (a1 : Int32) (σ : S) (Q : Int32 → S → Prop) : Prop := (P_X8_isIn a1.toInt64 0 (((σ 3 0) - 1).toInt64) σ (fun r2 σ1 => (isB r2 ∧ Q r2 σ1)))
set_option maxHeartbeats 2000000 in
theorem met_X8_isSleeper (l : Launch) (D : va_G) (dA : Nat → ClassId) (ad : Nat → Nat) (σ : S) (sz : Nat) {a1 : Int32} {Q : Int32 → S → Prop} (hF : P_X8_isSleeper a1 σ Q) : CTi l yX8_isSleeper cX8_isSleeper 2 .boolean ({ frames := 1, cells := 0, slots := 0, locals := 25 } : Room) D dA ad σ sz [pX 200, iX a1] Q := by
  unfold P_X8_isSleeper at hF
  refine ph_enter [pX 200, iX a1] (Qc := fun A => va_Qi (TQi Q) (CB D dA ad A) A) (by decide +kernel) (Nat.le_of_ble_eq_true rfl) ?_
  intro p e s m args below meth c A ls X hP hl hnm
  have hl : LH ad ls 2 [(0, pX 200), (1, iX a1)] := hl
  refine ph_iload_n (n := 1) X hl dX8_isSleeper_0 rfl rfl ?_
  refine lv_i2l X.1 X.2.1 dX8_isSleeper_1 rfl ?_
  refine lv_lconst (v := 0) X.1 X.2.1 dX8_isSleeper_2 (by decide) ?_
  refine ph_aload_n (n := 0) X hl dX8_isSleeper_3 rfl rfl ?_
  refine tw_getr 3 203 X hP q1773 dX8_isSleeper_4 ?_
  refine lv_iconst (v := 0) X.1 X.2.1 dX8_isSleeper_7 (by decide) ?_
  refine tw_ald 3 (n := 16) X hP (vin (by decide)) (k := 0) (by decide) dX8_isSleeper_8 ?_
  refine lv_iconst (v := 1) X.1 X.2.1 dX8_isSleeper_9 (by decide) ?_
  refine lv_isub X.1 X.2.1 dX8_isSleeper_10 ?_
  refine lv_i2l X.1 X.2.1 dX8_isSleeper_11 rfl ?_
  refine tw_callSi [lX a1.toInt64, lX 0, lX (((σ 3 0) - 1).toInt64)] X hP (met_X8_isIn l D dA ad _ _ hF) (va_cwS 3 X.2.2.2.2.1 (lw_S q2144 q2145 q126 q2146) rfl rfl rfl (by decide +kernel) ⟨Nat.le_of_ble_eq_true rfl, Nat.le_of_ble_eq_true rfl⟩) rfl hl (k8 := 0) (cs0 (k := 0)) (by decide) ⟨Nat.le_refl _, Nat.le_refl _⟩ dX8_isSleeper_12 rfl (fun r2 σ1 H locs hF hP => ?_)
  exact tw_zret X hP hF.1 hF.2 dX8_isSleeper_15
def P_X8_thrown  (σ : S) (Q : Int32 → S → Prop) : Prop := (Q (σ 0 2) σ)
set_option maxHeartbeats 2000000 in
theorem met_X8_thrown (l : Launch) (D : va_G) (dA : Nat → ClassId) (ad : Nat → Nat) (σ : S) (sz : Nat) {Q : Int32 → S → Prop} (hF : P_X8_thrown  σ Q) : CTi l yX8_thrown cX8_thrown 1 .int ({ frames := 0, cells := 0, slots := 0, locals := 0 } : Room) D dA ad σ sz [pX 200] Q := by
  unfold P_X8_thrown at hF
  refine ph_enter [pX 200] (Qc := fun A => va_Qi (TQi Q) (CB D dA ad A) A) (by decide +kernel) (Nat.le_of_ble_eq_true rfl) ?_
  intro p e s m args below meth c A ls X hP hl hnm
  have hl : LH ad ls 1 [(0, pX 200)] := hl
  refine ph_aload_n (n := 0) X hl dX8_thrown_0 rfl rfl ?_
  refine tw_geti 2 X hP q1772 dX8_thrown_1 ?_
  exact tw_iret X hP hF dX8_thrown_4
def P_X8_fail (a1 : Int32) (σ : S) (Q : Int32 → S → Prop) : Prop := (∀ σ1, σ1 = up2 σ 0 2 a1 → (Q 0 σ1))
set_option maxHeartbeats 2000000 in
theorem met_X8_fail (l : Launch) (D : va_G) (dA : Nat → ClassId) (ad : Nat → Nat) (σ : S) (sz : Nat) {a1 : Int32} {Q : Int32 → S → Prop} (hF : P_X8_fail a1 σ Q) : CTi l yX8_fail cX8_fail 2 .int ({ frames := 0, cells := 0, slots := 0, locals := 0 } : Room) D dA ad σ sz [pX 200, iX a1] Q := by
  unfold P_X8_fail at hF
  refine ph_enter [pX 200, iX a1] (Qc := fun A => va_Qi (TQi Q) (CB D dA ad A) A) (by decide +kernel) (Nat.le_of_ble_eq_true rfl) ?_
  intro p e s m args below meth c A ls X hP hl hnm
  have hl : LH ad ls 2 [(0, pX 200), (1, iX a1)] := hl
  refine ph_aload_n (n := 0) X hl dX8_fail_0 rfl rfl ?_
  refine ph_iload_n (n := 1) X hl dX8_fail_1 rfl rfl ?_
  refine tw_puti 2 X hP q1772 dX8_fail_2 hF (fun H locs σ1 hP hF => ?_)
  refine lv_iconst (v := 0) X.1 X.2.1 dX8_fail_5 (by decide) ?_
  exact tw_iret X hP hF dX8_fail_6
def P_X8_feed_76 (Q : Int32 → S → Prop) (k23 : Int32 → Int32 → Int32 → Int32 → Int32 → Int32 → S → Prop) (y0 : Int32) (x1 : Int32) (x2 : Int32) (x3 : Int32) (x4 : Int32) (x5 : Int32) (x6 : Int32) (σ : S) : Prop := (vp_in (σ 0 14) 600 ∧ (∀ σ1, σ1 = up2 σ 13 ((σ 0 14).toNatClampNeg) ((y0 >>> (((24 - (8 * (x6 - x6 / 4 * 4))) : Int32) &&& 31)) &&& 255) → (∀ σ3, σ3 = up2 σ1 0 14 ((σ1 0 14) + 1) → (k23 x1 x2 x3 x4 x5 (x6 + 1) σ3))))
def P_X8_feed_23 (Q : Int32 → S → Prop) : Nat → Int32 → Int32 → Int32 → Int32 → Int32 → Int32 → S → Prop
  | 0, _, _, _, _, _, _, _ => False
  | n + 1, x1, x2, x3, x4, x5, x6, σ => ((20 ≤ x6 → (Q (σ 0 14) σ)) ∧ (¬ 20 ≤ x6 → ((4 ≤ x6 → ((8 ≤ x6 → ((12 ≤ x6 → ((16 ≤ x6 → (P_X8_feed_76 Q (fun z0 z1 z2 z3 z4 z5 z6 => P_X8_feed_23 Q  n z0 z1 z2 z3 z4 z5 z6) x5 x1 x2 x3 x4 x5 x6 σ)) ∧ (¬ 16 ≤ x6 → (P_X8_feed_76 Q (fun z0 z1 z2 z3 z4 z5 z6 => P_X8_feed_23 Q  n z0 z1 z2 z3 z4 z5 z6) x4 x1 x2 x3 x4 x5 x6 σ)))) ∧ (¬ 12 ≤ x6 → (P_X8_feed_76 Q (fun z0 z1 z2 z3 z4 z5 z6 => P_X8_feed_23 Q  n z0 z1 z2 z3 z4 z5 z6) x3 x1 x2 x3 x4 x5 x6 σ)))) ∧ (¬ 8 ≤ x6 → (P_X8_feed_76 Q (fun z0 z1 z2 z3 z4 z5 z6 => P_X8_feed_23 Q  n z0 z1 z2 z3 z4 z5 z6) x2 x1 x2 x3 x4 x5 x6 σ)))) ∧ (¬ 4 ≤ x6 → (P_X8_feed_76 Q (fun z0 z1 z2 z3 z4 z5 z6 => P_X8_feed_23 Q  n z0 z1 z2 z3 z4 z5 z6) x1 x1 x2 x3 x4 x5 x6 σ)))))
def P_X8_feed (a1 : Int32) (a2 : Int32) (a3 : Int32) (a4 : Int32) (a5 : Int32) (σ : S) (Q : Int32 → S → Prop) : Prop := (∀ σ9, σ9 = up2 σ 0 2 0 → ((((σ9 0 14) + 20) ≤ 600 → (∃ n9, P_X8_feed_23 Q n9 a1 a2 a3 a4 a5 0 σ9)) ∧ (¬ ((σ9 0 14) + 20) ≤ 600 → (Q (-1) σ9))))
set_option maxHeartbeats 2000000 in
theorem w_X8_feed_76 (X : CX p s m args c meth cX8_feed 8 (some .int) RX8 D dA ad A) {Q : Int32 → S → Prop} {k23 : Int32 → Int32 → Int32 → Int32 → Int32 → Int32 → S → Prop} (hk23 : ∀ (x1 : Int32) (x2 : Int32) (x3 : Int32) (x4 : Int32) (x5 : Int32) (x6 : Int32) (σ : S) (H : Heap) (locs : List Loc) (ls : Array Slot), k23 x1 x2 x3 x4 x5 x6 σ → PW D dA A s.heap ad (TH σ) H locs → LH ad ls 8 [(0, pX 200), (1, iX x1), (2, iX x2), (3, iX x3), (4, iX x4), (5, iX x5), (6, iX x6)] → WTi p l e ({ frames := 0, cells := 0, slots := 0, locals := 0 } : Room) s m args below meth c D dA ad A Q H locs (F0 m 23 ls [])) : ∀ (y0 : Int32) (x1 : Int32) (x2 : Int32) (x3 : Int32) (x4 : Int32) (x5 : Int32) (x6 : Int32) (σ : S) (H : Heap) (locs : List Loc) (ls : Array Slot), P_X8_feed_76 Q k23 y0 x1 x2 x3 x4 x5 x6 σ → PW D dA A s.heap ad (TH σ) H locs → LH ad ls 8 [(0, pX 200), (1, iX x1), (2, iX x2), (3, iX x3), (4, iX x4), (5, iX x5), (6, iX x6)] → WTi p l e ({ frames := 0, cells := 0, slots := 0, locals := 0 } : Room) s m args below meth c D dA ad A Q H locs (F0 m 76 ls [.int y0]) := by
  intro y0 x1 x2 x3 x4 x5 x6 σ H locs ls hF hP hl
  unfold P_X8_feed_76 at hF
  refine ph_istore X hl dX8_feed_76 (by decide) rfl (fun ls hl => ?_)
  refine ph_aload_n (n := 1) X hl dX8_feed_78 rfl rfl ?_
  refine tw_getr 13 213 X hP q1783 dX8_feed_79 ?_
  refine ph_aload_n (n := 1) X hl dX8_feed_82 rfl rfl ?_
  refine tw_geti 14 X hP q1784 dX8_feed_83 ?_
  refine ph_iload (n := 0) X hl dX8_feed_86 rfl ?_
  refine lv_bipush (v := 24) X.1 X.2.1 dX8_feed_88 (by decide) ?_
  refine lv_bipush (v := 8) X.1 X.2.1 dX8_feed_90 (by decide) ?_
  refine ph_iload (n := 7) X hl dX8_feed_92 rfl ?_
  refine lv_iconst (v := 4) X.1 X.2.1 dX8_feed_94 (by decide) ?_
  refine lv_irem X.1 X.2.1 dX8_feed_95 (by decide) ?_
  refine lv_imul X.1 X.2.1 dX8_feed_96 ?_
  refine lv_isub X.1 X.2.1 dX8_feed_97 ?_
  refine lv_ishr X.1 X.2.1 dX8_feed_98 ?_
  refine lv_sipush (v := 255) X.1 X.2.1 dX8_feed_99 (by decide) ?_
  refine lv_iand X.1 X.2.1 dX8_feed_102 ?_
  obtain ⟨hr2, hF⟩ := hF
  refine tw_ast 13 (n := 600) X hP hr2 (k := (σ 0 14).toNatClampNeg) rfl dX8_feed_103 hF (fun H locs σ1 hP hF => ?_)
  refine ph_aload_n (n := 1) X hl dX8_feed_104 rfl rfl ?_
  refine ph_dup_r X dX8_feed_105 ?_
  refine tw_geti 14 X hP q1784 dX8_feed_106 ?_
  refine lv_iconst (v := 1) X.1 X.2.1 dX8_feed_109 (by decide) ?_
  refine lv_iadd X.1 X.2.1 dX8_feed_110 ?_
  refine tw_puti 14 X hP q1784 dX8_feed_111 hF (fun H locs σ3 hP hF => ?_)
  refine ph_iinc (v := x6 + 1) (k := 7) X hl dX8_feed_114 rfl rfl (by decide) rfl (fun ls hl => ?_)
  refine lv_goto (tgt := 23) X.1 X.2.1 dX8_feed_117 (by decide) ?_
  exact hk23 _ _ _ _ _ _ _ _ _ _ hF hP (lh_sub hl [2, 3, 4, 5, 6, 7, 0] rfl)
set_option maxHeartbeats 2000000 in
theorem w_X8_feed_23 (X : CX p s m args c meth cX8_feed 8 (some .int) RX8 D dA ad A) {Q : Int32 → S → Prop} : ∀ (n : Nat) (x1 : Int32) (x2 : Int32) (x3 : Int32) (x4 : Int32) (x5 : Int32) (x6 : Int32) (σ : S) (H : Heap) (locs : List Loc) (ls : Array Slot), P_X8_feed_23 Q n x1 x2 x3 x4 x5 x6 σ → PW D dA A s.heap ad (TH σ) H locs → LH ad ls 8 [(0, pX 200), (1, iX x1), (2, iX x2), (3, iX x3), (4, iX x4), (5, iX x5), (6, iX x6)] → WTi p l e ({ frames := 0, cells := 0, slots := 0, locals := 0 } : Room) s m args below meth c D dA ad A Q H locs (F0 m 23 ls []) := by
  intro n
  induction n with
  | zero =>
    intro x1 x2 x3 x4 x5 x6 σ H locs ls hF
    exact hF.elim
  | succ n ih =>
    intro x1 x2 x3 x4 x5 x6 σ H locs ls hF hP hl
    rw [P_X8_feed_23] at hF
    refine ph_iload (n := 6) X hl dX8_feed_23 rfl ?_
    refine lv_bipush (v := 20) X.1 X.2.1 dX8_feed_25 (by decide) ?_
    refine lv_icmp_ge (tgt := 120) X.1 X.2.1 dX8_feed_27 (by decide) (fun c8 => ?_) (fun c8 => ?_)
    · have hF := hF.1 c8
      refine ph_aload_n (n := 0) X hl dX8_feed_120 rfl rfl ?_
      refine tw_geti 14 X hP q1784 dX8_feed_121 ?_
      exact tw_iret X hP hF dX8_feed_124
    · have hF := hF.2 c8
      refine ph_iload (n := 6) X hl dX8_feed_30 rfl ?_
      refine lv_iconst (v := 4) X.1 X.2.1 dX8_feed_32 (by decide) ?_
      refine lv_icmp_ge (tgt := 40) X.1 X.2.1 dX8_feed_33 (by decide) (fun c7 => ?_) (fun c7 => ?_)
      · have hF := hF.1 c7
        refine ph_iload (n := 6) X hl dX8_feed_40 rfl ?_
        refine lv_bipush (v := 8) X.1 X.2.1 dX8_feed_42 (by decide) ?_
        refine lv_icmp_ge (tgt := 51) X.1 X.2.1 dX8_feed_44 (by decide) (fun c6 => ?_) (fun c6 => ?_)
        · have hF := hF.1 c6
          refine ph_iload (n := 6) X hl dX8_feed_51 rfl ?_
          refine lv_bipush (v := 12) X.1 X.2.1 dX8_feed_53 (by decide) ?_
          refine lv_icmp_ge (tgt := 62) X.1 X.2.1 dX8_feed_55 (by decide) (fun c5 => ?_) (fun c5 => ?_)
          · have hF := hF.1 c5
            refine ph_iload (n := 6) X hl dX8_feed_62 rfl ?_
            refine lv_bipush (v := 16) X.1 X.2.1 dX8_feed_64 (by decide) ?_
            refine lv_icmp_ge (tgt := 74) X.1 X.2.1 dX8_feed_66 (by decide) (fun c4 => ?_) (fun c4 => ?_)
            · have hF := hF.1 c4
              refine ph_iload (n := 5) X hl dX8_feed_74 rfl ?_
              exact w_X8_feed_76 X ih _ _ _ _ _ _ _ _ _ _ _ hF hP hl
            · have hF := hF.2 c4
              refine ph_iload (n := 4) X hl dX8_feed_69 rfl ?_
              refine lv_goto (tgt := 76) X.1 X.2.1 dX8_feed_71 (by decide) ?_
              exact w_X8_feed_76 X ih _ _ _ _ _ _ _ _ _ _ _ hF hP hl
          · have hF := hF.2 c5
            refine ph_iload_n (n := 3) X hl dX8_feed_58 rfl rfl ?_
            refine lv_goto (tgt := 76) X.1 X.2.1 dX8_feed_59 (by decide) ?_
            exact w_X8_feed_76 X ih _ _ _ _ _ _ _ _ _ _ _ hF hP hl
        · have hF := hF.2 c6
          refine ph_iload_n (n := 2) X hl dX8_feed_47 rfl rfl ?_
          refine lv_goto (tgt := 76) X.1 X.2.1 dX8_feed_48 (by decide) ?_
          exact w_X8_feed_76 X ih _ _ _ _ _ _ _ _ _ _ _ hF hP hl
      · have hF := hF.2 c7
        refine ph_iload_n (n := 1) X hl dX8_feed_36 rfl rfl ?_
        refine lv_goto (tgt := 76) X.1 X.2.1 dX8_feed_37 (by decide) ?_
        exact w_X8_feed_76 X ih _ _ _ _ _ _ _ _ _ _ _ hF hP hl
set_option maxHeartbeats 2000000 in
theorem met_X8_feed (l : Launch) (D : va_G) (dA : Nat → ClassId) (ad : Nat → Nat) (σ : S) (sz : Nat) {a1 : Int32} {a2 : Int32} {a3 : Int32} {a4 : Int32} {a5 : Int32} {Q : Int32 → S → Prop} (hF : P_X8_feed a1 a2 a3 a4 a5 σ Q) : CTi l yX8_feed cX8_feed 8 .int ({ frames := 0, cells := 0, slots := 0, locals := 0 } : Room) D dA ad σ sz [pX 200, iX a1, iX a2, iX a3, iX a4, iX a5] Q := by
  unfold P_X8_feed at hF
  refine ph_enter [pX 200, iX a1, iX a2, iX a3, iX a4, iX a5] (Qc := fun A => va_Qi (TQi Q) (CB D dA ad A) A) (by decide +kernel) (Nat.le_of_ble_eq_true rfl) ?_
  intro p e s m args below meth c A ls X hP hl hnm
  have hl : LH ad ls 8 [(0, pX 200), (1, iX a1), (2, iX a2), (3, iX a3), (4, iX a4), (5, iX a5)] := hl
  refine ph_aload_n (n := 0) X hl dX8_feed_0 rfl rfl ?_
  refine lv_iconst (v := 0) X.1 X.2.1 dX8_feed_1 (by decide) ?_
  refine tw_puti 2 X hP q1772 dX8_feed_2 hF (fun H locs σ9 hP hF => ?_)
  refine ph_aload_n (n := 0) X hl dX8_feed_5 rfl rfl ?_
  refine tw_geti 14 X hP q1784 dX8_feed_6 ?_
  refine lv_bipush (v := 20) X.1 X.2.1 dX8_feed_9 (by decide) ?_
  refine lv_iadd X.1 X.2.1 dX8_feed_11 ?_
  refine lv_sipush (v := 600) X.1 X.2.1 dX8_feed_12 (by decide) ?_
  refine lv_icmp_le (tgt := 20) X.1 X.2.1 dX8_feed_15 (by decide) (fun c10 => ?_) (fun c10 => ?_)
  · have hF := hF.1 c10
    refine lv_iconst (v := 0) X.1 X.2.1 dX8_feed_20 (by decide) ?_
    refine ph_istore X hl dX8_feed_21 (by decide) rfl (fun ls hl => ?_)
    obtain ⟨n9, hF⟩ := hF
    exact w_X8_feed_23 X n9 _ _ _ _ _ _ _ _ _ _ hF hP (lh_sub hl [1, 2, 3, 4, 5, 6, 0] rfl)
  · have hF := hF.2 c10
    refine lv_iconst (v := (-1)) X.1 X.2.1 dX8_feed_18 (by decide) ?_
    exact tw_iret X hP hF dX8_feed_19
def P_X8_byteAt (a1 : Int32) (σ : S) (Q : Int32 → S → Prop) : Prop := (((σ 0 16) ≤ a1 → (Q (-1) σ)) ∧ (¬ (σ 0 16) ≤ a1 → (vp_in a1 600 ∧ (Q (σ 13 a1.toNatClampNeg) σ))))
set_option maxHeartbeats 2000000 in
theorem met_X8_byteAt (l : Launch) (D : va_G) (dA : Nat → ClassId) (ad : Nat → Nat) (σ : S) (sz : Nat) {a1 : Int32} {Q : Int32 → S → Prop} (hF : P_X8_byteAt a1 σ Q) : CTi l yX8_byteAt cX8_byteAt 2 .int ({ frames := 0, cells := 0, slots := 0, locals := 0 } : Room) D dA ad σ sz [pX 200, iX a1] Q := by
  unfold P_X8_byteAt at hF
  refine ph_enter [pX 200, iX a1] (Qc := fun A => va_Qi (TQi Q) (CB D dA ad A) A) (by decide +kernel) (Nat.le_of_ble_eq_true rfl) ?_
  intro p e s m args below meth c A ls X hP hl hnm
  have hl : LH ad ls 2 [(0, pX 200), (1, iX a1)] := hl
  refine ph_iload_n (n := 1) X hl dX8_byteAt_0 rfl rfl ?_
  refine ph_aload_n (n := 0) X hl dX8_byteAt_1 rfl rfl ?_
  refine tw_geti 16 X hP q1786 dX8_byteAt_2 ?_
  refine lv_icmp_ge (tgt := 17) X.1 X.2.1 dX8_byteAt_5 (by decide) (fun c2 => ?_) (fun c2 => ?_)
  · have hF := hF.1 c2
    refine lv_iconst (v := (-1)) X.1 X.2.1 dX8_byteAt_17 (by decide) ?_
    exact tw_iret X hP hF dX8_byteAt_18
  · have hF := hF.2 c2
    refine ph_aload_n (n := 0) X hl dX8_byteAt_8 rfl rfl ?_
    refine tw_getr 13 213 X hP q1783 dX8_byteAt_9 ?_
    refine ph_iload_n (n := 1) X hl dX8_byteAt_12 rfl rfl ?_
    obtain ⟨hr1, hF⟩ := hF
    refine tw_ald 13 (n := 600) X hP hr1 (k := a1.toNatClampNeg) rfl dX8_byteAt_13 ?_
    refine lv_goto (tgt := 18) X.1 X.2.1 dX8_byteAt_14 (by decide) ?_
    exact tw_iret X hP hF dX8_byteAt_18
def P_X8_isLetter (a0 : Int32) (σ : S) (Q : Int32 → S → Prop) : Prop := ((a0 < 97 → (Q 0 σ)) ∧ (¬ a0 < 97 → ((122 < a0 → (Q 0 σ)) ∧ (¬ 122 < a0 → (Q 1 σ)))))
set_option maxHeartbeats 2000000 in
theorem met_X8_isLetter (l : Launch) (D : va_G) (dA : Nat → ClassId) (ad : Nat → Nat) (σ : S) (sz : Nat) {a0 : Int32} {Q : Int32 → S → Prop} (hF : P_X8_isLetter a0 σ Q) : CTi l yX8_isLetter cX8_isLetter 1 .boolean ({ frames := 0, cells := 0, slots := 0, locals := 0 } : Room) D dA ad σ sz [iX a0] Q := by
  unfold P_X8_isLetter at hF
  refine ph_enter [iX a0] (Qc := fun A => va_Qi (TQi Q) (CB D dA ad A) A) (by decide +kernel) (Nat.le_of_ble_eq_true rfl) ?_
  intro p e s m args below meth c A ls X hP hl hnm
  have hl : LH ad ls 1 [(0, iX a0)] := hl
  refine ph_iload_n (n := 0) X hl dX8_isLetter_0 rfl rfl ?_
  refine lv_bipush (v := 97) X.1 X.2.1 dX8_isLetter_1 (by decide) ?_
  refine lv_icmp_lt (tgt := 16) X.1 X.2.1 dX8_isLetter_3 (by decide) (fun c2 => ?_) (fun c2 => ?_)
  · have hF := hF.1 c2
    refine lv_iconst (v := 0) X.1 X.2.1 dX8_isLetter_16 (by decide) ?_
    exact tw_zret X hP isB_0 hF dX8_isLetter_17
  · have hF := hF.2 c2
    refine ph_iload_n (n := 0) X hl dX8_isLetter_6 rfl rfl ?_
    refine lv_bipush (v := 122) X.1 X.2.1 dX8_isLetter_7 (by decide) ?_
    refine lv_icmp_gt (tgt := 16) X.1 X.2.1 dX8_isLetter_9 (by decide) (fun c1 => ?_) (fun c1 => ?_)
    · have hF := hF.1 c1
      refine lv_iconst (v := 0) X.1 X.2.1 dX8_isLetter_16 (by decide) ?_
      exact tw_zret X hP isB_0 hF dX8_isLetter_17
    · have hF := hF.2 c1
      refine lv_iconst (v := 1) X.1 X.2.1 dX8_isLetter_12 (by decide) ?_
      refine lv_goto (tgt := 17) X.1 X.2.1 dX8_isLetter_13 (by decide) ?_
      exact tw_zret X hP isB_1 hF dX8_isLetter_17
def P_X8_isDigit (a0 : Int32) (σ : S) (Q : Int32 → S → Prop) : Prop := ((a0 < 48 → (Q 0 σ)) ∧ (¬ a0 < 48 → ((57 < a0 → (Q 0 σ)) ∧ (¬ 57 < a0 → (Q 1 σ)))))
set_option maxHeartbeats 2000000 in
theorem met_X8_isDigit (l : Launch) (D : va_G) (dA : Nat → ClassId) (ad : Nat → Nat) (σ : S) (sz : Nat) {a0 : Int32} {Q : Int32 → S → Prop} (hF : P_X8_isDigit a0 σ Q) : CTi l yX8_isDigit cX8_isDigit 1 .boolean ({ frames := 0, cells := 0, slots := 0, locals := 0 } : Room) D dA ad σ sz [iX a0] Q := by
  unfold P_X8_isDigit at hF
  refine ph_enter [iX a0] (Qc := fun A => va_Qi (TQi Q) (CB D dA ad A) A) (by decide +kernel) (Nat.le_of_ble_eq_true rfl) ?_
  intro p e s m args below meth c A ls X hP hl hnm
  have hl : LH ad ls 1 [(0, iX a0)] := hl
  refine ph_iload_n (n := 0) X hl dX8_isDigit_0 rfl rfl ?_
  refine lv_bipush (v := 48) X.1 X.2.1 dX8_isDigit_1 (by decide) ?_
  refine lv_icmp_lt (tgt := 16) X.1 X.2.1 dX8_isDigit_3 (by decide) (fun c2 => ?_) (fun c2 => ?_)
  · have hF := hF.1 c2
    refine lv_iconst (v := 0) X.1 X.2.1 dX8_isDigit_16 (by decide) ?_
    exact tw_zret X hP isB_0 hF dX8_isDigit_17
  · have hF := hF.2 c2
    refine ph_iload_n (n := 0) X hl dX8_isDigit_6 rfl rfl ?_
    refine lv_bipush (v := 57) X.1 X.2.1 dX8_isDigit_7 (by decide) ?_
    refine lv_icmp_gt (tgt := 16) X.1 X.2.1 dX8_isDigit_9 (by decide) (fun c1 => ?_) (fun c1 => ?_)
    · have hF := hF.1 c1
      refine lv_iconst (v := 0) X.1 X.2.1 dX8_isDigit_16 (by decide) ?_
      exact tw_zret X hP isB_0 hF dX8_isDigit_17
    · have hF := hF.2 c1
      refine lv_iconst (v := 1) X.1 X.2.1 dX8_isDigit_12 (by decide) ?_
      refine lv_goto (tgt := 17) X.1 X.2.1 dX8_isDigit_13 (by decide) ?_
      exact tw_zret X hP isB_1 hF dX8_isDigit_17
def P_X8_isMark_54 (Q : Int32 → S → Prop)  (σ : S) : Prop := (Q 1 σ)
def P_X8_isMark (a0 : Int32) (σ : S) (Q : Int32 → S → Prop) : Prop := ((a0 = 59 → (P_X8_isMark_54 Q σ)) ∧ (¬ a0 = 59 → ((a0 = 40 → (P_X8_isMark_54 Q σ)) ∧ (¬ a0 = 40 → ((a0 = 41 → (P_X8_isMark_54 Q σ)) ∧ (¬ a0 = 41 → ((a0 = 43 → (P_X8_isMark_54 Q σ)) ∧ (¬ a0 = 43 → ((a0 = 45 → (P_X8_isMark_54 Q σ)) ∧ (¬ a0 = 45 → ((a0 = 42 → (P_X8_isMark_54 Q σ)) ∧ (¬ a0 = 42 → ((a0 = 47 → (P_X8_isMark_54 Q σ)) ∧ (¬ a0 = 47 → ((a0 = 60 → (P_X8_isMark_54 Q σ)) ∧ (¬ a0 = 60 → ((¬ a0 = 61 → (Q 0 σ)) ∧ (a0 = 61 → (P_X8_isMark_54 Q σ)))))))))))))))))))
set_option maxHeartbeats 2000000 in
theorem w_X8_isMark_54 (X : CX p s m args c meth cX8_isMark 1 (some .boolean) RX8 D dA ad A) {Q : Int32 → S → Prop} : ∀  (σ : S) (H : Heap) (locs : List Loc) (ls : Array Slot), P_X8_isMark_54 Q  σ → PW D dA A s.heap ad (TH σ) H locs → LH ad ls 1 [] → WTi p l e ({ frames := 0, cells := 0, slots := 0, locals := 0 } : Room) s m args below meth c D dA ad A Q H locs (F0 m 54 ls []) := by
  intro  σ H locs ls hF hP hl
  unfold P_X8_isMark_54 at hF
  refine lv_iconst (v := 1) X.1 X.2.1 dX8_isMark_54 (by decide) ?_
  refine lv_goto (tgt := 59) X.1 X.2.1 dX8_isMark_55 (by decide) ?_
  exact tw_zret X hP isB_1 hF dX8_isMark_59
set_option maxHeartbeats 2000000 in
theorem met_X8_isMark (l : Launch) (D : va_G) (dA : Nat → ClassId) (ad : Nat → Nat) (σ : S) (sz : Nat) {a0 : Int32} {Q : Int32 → S → Prop} (hF : P_X8_isMark a0 σ Q) : CTi l yX8_isMark cX8_isMark 1 .boolean ({ frames := 0, cells := 0, slots := 0, locals := 0 } : Room) D dA ad σ sz [iX a0] Q := by
  unfold P_X8_isMark at hF
  refine ph_enter [iX a0] (Qc := fun A => va_Qi (TQi Q) (CB D dA ad A) A) (by decide +kernel) (Nat.le_of_ble_eq_true rfl) ?_
  intro p e s m args below meth c A ls X hP hl hnm
  have hl : LH ad ls 1 [(0, iX a0)] := hl
  refine ph_iload_n (n := 0) X hl dX8_isMark_0 rfl rfl ?_
  refine lv_bipush (v := 59) X.1 X.2.1 dX8_isMark_1 (by decide) ?_
  refine lv_icmp_eq (tgt := 54) X.1 X.2.1 dX8_isMark_3 (by decide) (fun c9 => ?_) (fun c9 => ?_)
  · have hF := hF.1 c9
    exact w_X8_isMark_54 X _ _ _ _ hF hP (lh_sub hl [] rfl)
  · have hF := hF.2 c9
    refine ph_iload_n (n := 0) X hl dX8_isMark_6 rfl rfl ?_
    refine lv_bipush (v := 40) X.1 X.2.1 dX8_isMark_7 (by decide) ?_
    refine lv_icmp_eq (tgt := 54) X.1 X.2.1 dX8_isMark_9 (by decide) (fun c8 => ?_) (fun c8 => ?_)
    · have hF := hF.1 c8
      exact w_X8_isMark_54 X _ _ _ _ hF hP (lh_sub hl [] rfl)
    · have hF := hF.2 c8
      refine ph_iload_n (n := 0) X hl dX8_isMark_12 rfl rfl ?_
      refine lv_bipush (v := 41) X.1 X.2.1 dX8_isMark_13 (by decide) ?_
      refine lv_icmp_eq (tgt := 54) X.1 X.2.1 dX8_isMark_15 (by decide) (fun c7 => ?_) (fun c7 => ?_)
      · have hF := hF.1 c7
        exact w_X8_isMark_54 X _ _ _ _ hF hP (lh_sub hl [] rfl)
      · have hF := hF.2 c7
        refine ph_iload_n (n := 0) X hl dX8_isMark_18 rfl rfl ?_
        refine lv_bipush (v := 43) X.1 X.2.1 dX8_isMark_19 (by decide) ?_
        refine lv_icmp_eq (tgt := 54) X.1 X.2.1 dX8_isMark_21 (by decide) (fun c6 => ?_) (fun c6 => ?_)
        · have hF := hF.1 c6
          exact w_X8_isMark_54 X _ _ _ _ hF hP (lh_sub hl [] rfl)
        · have hF := hF.2 c6
          refine ph_iload_n (n := 0) X hl dX8_isMark_24 rfl rfl ?_
          refine lv_bipush (v := 45) X.1 X.2.1 dX8_isMark_25 (by decide) ?_
          refine lv_icmp_eq (tgt := 54) X.1 X.2.1 dX8_isMark_27 (by decide) (fun c5 => ?_) (fun c5 => ?_)
          · have hF := hF.1 c5
            exact w_X8_isMark_54 X _ _ _ _ hF hP (lh_sub hl [] rfl)
          · have hF := hF.2 c5
            refine ph_iload_n (n := 0) X hl dX8_isMark_30 rfl rfl ?_
            refine lv_bipush (v := 42) X.1 X.2.1 dX8_isMark_31 (by decide) ?_
            refine lv_icmp_eq (tgt := 54) X.1 X.2.1 dX8_isMark_33 (by decide) (fun c4 => ?_) (fun c4 => ?_)
            · have hF := hF.1 c4
              exact w_X8_isMark_54 X _ _ _ _ hF hP (lh_sub hl [] rfl)
            · have hF := hF.2 c4
              refine ph_iload_n (n := 0) X hl dX8_isMark_36 rfl rfl ?_
              refine lv_bipush (v := 47) X.1 X.2.1 dX8_isMark_37 (by decide) ?_
              refine lv_icmp_eq (tgt := 54) X.1 X.2.1 dX8_isMark_39 (by decide) (fun c3 => ?_) (fun c3 => ?_)
              · have hF := hF.1 c3
                exact w_X8_isMark_54 X _ _ _ _ hF hP (lh_sub hl [] rfl)
              · have hF := hF.2 c3
                refine ph_iload_n (n := 0) X hl dX8_isMark_42 rfl rfl ?_
                refine lv_bipush (v := 60) X.1 X.2.1 dX8_isMark_43 (by decide) ?_
                refine lv_icmp_eq (tgt := 54) X.1 X.2.1 dX8_isMark_45 (by decide) (fun c2 => ?_) (fun c2 => ?_)
                · have hF := hF.1 c2
                  exact w_X8_isMark_54 X _ _ _ _ hF hP (lh_sub hl [] rfl)
                · have hF := hF.2 c2
                  refine ph_iload_n (n := 0) X hl dX8_isMark_48 rfl rfl ?_
                  refine lv_bipush (v := 61) X.1 X.2.1 dX8_isMark_49 (by decide) ?_
                  refine lv_icmp_ne (tgt := 58) X.1 X.2.1 dX8_isMark_51 (by decide) (fun c1 => ?_) (fun c1 => ?_)
                  · have hF := hF.1 c1
                    refine lv_iconst (v := 0) X.1 X.2.1 dX8_isMark_58 (by decide) ?_
                    exact tw_zret X hP isB_0 hF dX8_isMark_59
                  · have hF := hF.2 c1
                    exact w_X8_isMark_54 X _ _ _ _ hF hP (lh_sub hl [] rfl)
def P_X8_stepOn_123 (Q : S → Prop) : Nat → S → Prop
  | 0, _ => False
  | n + 1, σ => (P_X8_byteAt (σ 0 15) σ (fun r2 σ1 => (P_X8_isDigit r2 σ1 (fun r4 σ3 => ((r4 = 0 → (∀ σ5, σ5 = up2 σ3 0 17 2 → (∀ σ6, σ6 = up2 σ5 0 20 (σ5 0 15) → (Q σ6)))) ∧ (¬ r4 = 0 → (P_X8_byteAt (σ3 0 15) σ3 (fun r8 σ7 => (∀ σ9, σ9 = up2 σ7 0 18 (if (((10 * (σ3 0 18)) + r8) - 48) < 100000 then ((10 * (σ3 0 18)) + r8) - 48 else 100000) → (∀ σ10, σ10 = up2 σ9 0 15 ((σ9 0 15) + 1) → (P_X8_stepOn_123 Q  n σ10)))))))))))
def P_X8_stepOn_76 (Q : S → Prop) : Nat → S → Prop
  | 0, _ => False
  | n + 1, σ => (P_X8_byteAt (σ 0 15) σ (fun r13 σ12 => (P_X8_isLetter r13 σ12 (fun r15 σ14 => ((r15 = 0 → (∀ σ16, σ16 = up2 σ14 0 17 1 → (∀ σ17, σ17 = up2 σ16 0 20 (σ16 0 15) → (Q σ17)))) ∧ (¬ r15 = 0 → (∀ σ18, σ18 = up2 σ14 0 15 ((σ14 0 15) + 1) → (P_X8_stepOn_76 Q  n σ18))))))))
def P_X8_stepOn_0 (Q : S → Prop) : Nat → S → Prop
  | 0, _ => False
  | n + 1, σ => (P_X8_byteAt (σ 0 15) σ (fun r21 σ20 => ((r21 = 32 → (∀ σ22, σ22 = up2 σ20 0 15 ((σ20 0 15) + 1) → (P_X8_stepOn_0 Q  n σ22))) ∧ (¬ r21 = 32 → (P_X8_byteAt (σ20 0 15) σ20 (fun r24 σ23 => ((¬ r24 = 10 → (∀ σ25, σ25 = up2 σ23 0 19 (σ23 0 15) → (P_X8_byteAt (σ25 0 15) σ25 (fun r27 σ26 => ((¬ r27 = (-1) → (P_X8_isLetter r27 σ26 (fun r29 σ28 => ((r29 = 0 → (P_X8_isDigit r27 σ28 (fun r31 σ30 => ((r31 = 0 → (∀ σ32, σ32 = up2 σ30 0 15 ((σ30 0 15) + 1) → (P_X8_isMark r27 σ32 (fun r34 σ33 => ((r34 = 0 → (∀ σ35, σ35 = up2 σ33 0 17 4 → (∀ σ36, σ36 = up2 σ35 0 20 (σ35 0 15) → (Q σ36)))) ∧ (¬ r34 = 0 → (∀ σ37, σ37 = up2 σ33 0 17 3 → (∀ σ38, σ38 = up2 σ37 0 20 (σ37 0 15) → (Q σ38))))))))) ∧ (¬ r31 = 0 → (∀ σ40, σ40 = up2 σ30 0 18 0 → (∃ n9, P_X8_stepOn_123 Q n9 σ40))))))) ∧ (¬ r29 = 0 → (∃ n9, P_X8_stepOn_76 Q n9 σ28)))))) ∧ (r27 = (-1) → (∀ σ43, σ43 = up2 σ26 0 17 0 → (∀ σ44, σ44 = up2 σ43 0 20 (σ43 0 15) → (Q σ44))))))))) ∧ (r24 = 10 → (∀ σ46, σ46 = up2 σ23 0 15 ((σ23 0 15) + 1) → (P_X8_stepOn_0 Q  n σ46))))))))))
def P_X8_stepOn  (σ : S) (Q : S → Prop) : Prop := (∃ n9, P_X8_stepOn_0 Q n9 σ)
set_option maxHeartbeats 2000000 in
theorem w_X8_stepOn_123 (X : CX p s m args c meth cX8_stepOn 2 none RX8 D dA ad A) {Q : S → Prop} : ∀ (n : Nat)  (σ : S) (H : Heap) (locs : List Loc) (ls : Array Slot), P_X8_stepOn_123 Q n  σ → PW D dA A s.heap ad (TH σ) H locs → LH ad ls 2 [(0, pX 200)] → WTv p l e ({ frames := 1, cells := 0, slots := 0, locals := 21 } : Room) s m args below meth c D dA ad A Q H locs (F0 m 123 ls []) := by
  intro n
  induction n with
  | zero =>
    intro  σ H locs ls hF
    exact hF.elim
  | succ n ih =>
    intro  σ H locs ls hF hP hl
    rw [P_X8_stepOn_123] at hF
    refine ph_aload_n (n := 0) X hl dX8_stepOn_123 rfl rfl ?_
    refine ph_aload_n (n := 0) X hl dX8_stepOn_124 rfl rfl ?_
    refine tw_geti 15 X hP q1785 dX8_stepOn_125 ?_
    refine tw_callVi [iX (σ 0 15)] X hP (met_X8_byteAt l D dA ad _ _ hF) (cwV 1 X.2.2.2.2.1 (lw_V q2010 q2012 qs46 q126 q2013) rfl rfl rfl (by decide +kernel) ⟨Nat.le_of_ble_eq_true rfl, Nat.le_of_ble_eq_true rfl⟩) rfl hl (k8 := 0) (cs0 (k := 0)) (by decide) ⟨Nat.le_refl _, Nat.le_refl _⟩ dX8_stepOn_128 rfl (fun r2 σ1 H locs hF hP => ?_)
    refine tw_callSi [iX r2] X hP (met_X8_isDigit l D dA ad _ _ hF) (va_cwS 1 X.2.2.2.2.1 (lw_S q2017 q2018 q126 q2019) rfl rfl rfl (by decide +kernel) ⟨Nat.le_of_ble_eq_true rfl, Nat.le_of_ble_eq_true rfl⟩) rfl hl (k8 := 0) (cs0 (k := 0)) (by decide) ⟨Nat.le_refl _, Nat.le_refl _⟩ dX8_stepOn_131 rfl (fun r4 σ3 H locs hF hP => ?_)
    refine lv_if_eq (tgt := 178) X.1 X.2.1 dX8_stepOn_134 (by decide) (fun c11 => ?_) (fun c11 => ?_)
    · have hF := hF.1 c11
      refine ph_aload_n (n := 0) X hl dX8_stepOn_178 rfl rfl ?_
      refine lv_iconst (v := 2) X.1 X.2.1 dX8_stepOn_179 (by decide) ?_
      refine tw_puti 17 X hP q1787 dX8_stepOn_180 hF (fun H locs σ5 hP hF => ?_)
      refine lv_goto (tgt := 212) X.1 X.2.1 dX8_stepOn_183 (by decide) ?_
      refine ph_aload_n (n := 0) X hl dX8_stepOn_212 rfl rfl ?_
      refine ph_aload_n (n := 0) X hl dX8_stepOn_213 rfl rfl ?_
      refine tw_geti 15 X hP q1785 dX8_stepOn_214 ?_
      refine tw_puti 20 X hP q1790 dX8_stepOn_217 hF (fun H locs σ6 hP hF => ?_)
      exact tw_vret X hP hF dX8_stepOn_220
    · have hF := hF.2 c11
      refine ph_aload_n (n := 0) X hl dX8_stepOn_137 rfl rfl ?_
      refine lv_ldc (v := 100000) X.1 X.2.1 X.2.2.2.1 (X.2.2.2.2.1 _ q2020) dX8_stepOn_138 ?_
      refine lv_bipush (v := 10) X.1 X.2.1 dX8_stepOn_140 (by decide) ?_
      refine ph_aload_n (n := 0) X hl dX8_stepOn_142 rfl rfl ?_
      refine tw_geti 18 X hP q1788 dX8_stepOn_143 ?_
      refine lv_imul X.1 X.2.1 dX8_stepOn_146 ?_
      refine ph_aload_n (n := 0) X hl dX8_stepOn_147 rfl rfl ?_
      refine ph_aload_n (n := 0) X hl dX8_stepOn_148 rfl rfl ?_
      refine tw_geti 15 X hP q1785 dX8_stepOn_149 ?_
      refine tw_callVi [iX (σ3 0 15)] X hP (met_X8_byteAt l D dA ad _ _ hF) (cwV 1 X.2.2.2.2.1 (lw_V q2010 q2012 qs46 q126 q2013) rfl rfl rfl (by decide +kernel) ⟨Nat.le_of_ble_eq_true rfl, Nat.le_of_ble_eq_true rfl⟩) rfl hl (k8 := 3) (csi (csi (csr (cs0 (k := 0))))) (by decide) ⟨Nat.le_refl _, Nat.le_refl _⟩ dX8_stepOn_152 rfl (fun r8 σ7 H locs hF hP => ?_)
      refine lv_iadd X.1 X.2.1 dX8_stepOn_155 ?_
      refine lv_bipush (v := 48) X.1 X.2.1 dX8_stepOn_156 (by decide) ?_
      refine lv_isub X.1 X.2.1 dX8_stepOn_158 ?_
      refine va_mmin X.1 X.2.1 (X.2.2.1.trans hl.1.symm) X.2.2.2.1 (X.2.2.2.2.1 _ q2021) (X.2.2.2.2.1 _ q285) (X.2.2.2.2.1 _ q112) (X.2.2.2.2.1 _ q286) (Nat.le_of_ble_eq_true rfl) (Nat.le_trans (Nat.add_le_add_right (csr (cs0 (k := 0))) 13) (Nat.le_of_ble_eq_true rfl)) (Nat.le_refl _) (Nat.le_refl _) dX8_stepOn_159 ?_
      refine tw_puti 18 X hP q1788 dX8_stepOn_162 hF (fun H locs σ9 hP hF => ?_)
      refine ph_aload_n (n := 0) X hl dX8_stepOn_165 rfl rfl ?_
      refine ph_dup_r X dX8_stepOn_166 ?_
      refine tw_geti 15 X hP q1785 dX8_stepOn_167 ?_
      refine lv_iconst (v := 1) X.1 X.2.1 dX8_stepOn_170 (by decide) ?_
      refine lv_iadd X.1 X.2.1 dX8_stepOn_171 ?_
      refine tw_puti 15 X hP q1785 dX8_stepOn_172 hF (fun H locs σ10 hP hF => ?_)
      refine lv_goto (tgt := 123) X.1 X.2.1 dX8_stepOn_175 (by decide) ?_
      exact ih _ _ _ _ hF hP hl
set_option maxHeartbeats 2000000 in
theorem w_X8_stepOn_76 (X : CX p s m args c meth cX8_stepOn 2 none RX8 D dA ad A) {Q : S → Prop} : ∀ (n : Nat)  (σ : S) (H : Heap) (locs : List Loc) (ls : Array Slot), P_X8_stepOn_76 Q n  σ → PW D dA A s.heap ad (TH σ) H locs → LH ad ls 2 [(0, pX 200)] → WTv p l e ({ frames := 1, cells := 0, slots := 0, locals := 21 } : Room) s m args below meth c D dA ad A Q H locs (F0 m 76 ls []) := by
  intro n
  induction n with
  | zero =>
    intro  σ H locs ls hF
    exact hF.elim
  | succ n ih =>
    intro  σ H locs ls hF hP hl
    rw [P_X8_stepOn_76] at hF
    refine ph_aload_n (n := 0) X hl dX8_stepOn_76 rfl rfl ?_
    refine ph_aload_n (n := 0) X hl dX8_stepOn_77 rfl rfl ?_
    refine tw_geti 15 X hP q1785 dX8_stepOn_78 ?_
    refine tw_callVi [iX (σ 0 15)] X hP (met_X8_byteAt l D dA ad _ _ hF) (cwV 1 X.2.2.2.2.1 (lw_V q2010 q2012 qs46 q126 q2013) rfl rfl rfl (by decide +kernel) ⟨Nat.le_of_ble_eq_true rfl, Nat.le_of_ble_eq_true rfl⟩) rfl hl (k8 := 0) (cs0 (k := 0)) (by decide) ⟨Nat.le_refl _, Nat.le_refl _⟩ dX8_stepOn_81 rfl (fun r13 σ12 H locs hF hP => ?_)
    refine tw_callSi [iX r13] X hP (met_X8_isLetter l D dA ad _ _ hF) (va_cwS 1 X.2.2.2.2.1 (lw_S q2014 q2015 q126 q2016) rfl rfl rfl (by decide +kernel) ⟨Nat.le_of_ble_eq_true rfl, Nat.le_of_ble_eq_true rfl⟩) rfl hl (k8 := 0) (cs0 (k := 0)) (by decide) ⟨Nat.le_refl _, Nat.le_refl _⟩ dX8_stepOn_84 rfl (fun r15 σ14 H locs hF hP => ?_)
    refine lv_if_eq (tgt := 103) X.1 X.2.1 dX8_stepOn_87 (by decide) (fun c19 => ?_) (fun c19 => ?_)
    · have hF := hF.1 c19
      refine ph_aload_n (n := 0) X hl dX8_stepOn_103 rfl rfl ?_
      refine lv_iconst (v := 1) X.1 X.2.1 dX8_stepOn_104 (by decide) ?_
      refine tw_puti 17 X hP q1787 dX8_stepOn_105 hF (fun H locs σ16 hP hF => ?_)
      refine lv_goto (tgt := 212) X.1 X.2.1 dX8_stepOn_108 (by decide) ?_
      refine ph_aload_n (n := 0) X hl dX8_stepOn_212 rfl rfl ?_
      refine ph_aload_n (n := 0) X hl dX8_stepOn_213 rfl rfl ?_
      refine tw_geti 15 X hP q1785 dX8_stepOn_214 ?_
      refine tw_puti 20 X hP q1790 dX8_stepOn_217 hF (fun H locs σ17 hP hF => ?_)
      exact tw_vret X hP hF dX8_stepOn_220
    · have hF := hF.2 c19
      refine ph_aload_n (n := 0) X hl dX8_stepOn_90 rfl rfl ?_
      refine ph_dup_r X dX8_stepOn_91 ?_
      refine tw_geti 15 X hP q1785 dX8_stepOn_92 ?_
      refine lv_iconst (v := 1) X.1 X.2.1 dX8_stepOn_95 (by decide) ?_
      refine lv_iadd X.1 X.2.1 dX8_stepOn_96 ?_
      refine tw_puti 15 X hP q1785 dX8_stepOn_97 hF (fun H locs σ18 hP hF => ?_)
      refine lv_goto (tgt := 76) X.1 X.2.1 dX8_stepOn_100 (by decide) ?_
      exact ih _ _ _ _ hF hP hl
set_option maxHeartbeats 2000000 in
theorem w_X8_stepOn_0 (X : CX p s m args c meth cX8_stepOn 2 none RX8 D dA ad A) {Q : S → Prop} : ∀ (n : Nat)  (σ : S) (H : Heap) (locs : List Loc) (ls : Array Slot), P_X8_stepOn_0 Q n  σ → PW D dA A s.heap ad (TH σ) H locs → LH ad ls 2 [(0, pX 200)] → WTv p l e ({ frames := 1, cells := 0, slots := 0, locals := 21 } : Room) s m args below meth c D dA ad A Q H locs (F0 m 0 ls []) := by
  intro n
  induction n with
  | zero =>
    intro  σ H locs ls hF
    exact hF.elim
  | succ n ih =>
    intro  σ H locs ls hF hP hl
    rw [P_X8_stepOn_0] at hF
    refine ph_aload_n (n := 0) X hl dX8_stepOn_0 rfl rfl ?_
    refine ph_aload_n (n := 0) X hl dX8_stepOn_1 rfl rfl ?_
    refine tw_geti 15 X hP q1785 dX8_stepOn_2 ?_
    refine tw_callVi [iX (σ 0 15)] X hP (met_X8_byteAt l D dA ad _ _ hF) (cwV 1 X.2.2.2.2.1 (lw_V q2010 q2012 qs46 q126 q2013) rfl rfl rfl (by decide +kernel) ⟨Nat.le_of_ble_eq_true rfl, Nat.le_of_ble_eq_true rfl⟩) rfl hl (k8 := 0) (cs0 (k := 0)) (by decide) ⟨Nat.le_refl _, Nat.le_refl _⟩ dX8_stepOn_5 rfl (fun r21 σ20 H locs hF hP => ?_)
    refine lv_bipush (v := 32) X.1 X.2.1 dX8_stepOn_8 (by decide) ?_
    refine lv_icmp_eq (tgt := 26) X.1 X.2.1 dX8_stepOn_10 (by decide) (fun c48 => ?_) (fun c48 => ?_)
    · have hF := hF.1 c48
      refine ph_aload_n (n := 0) X hl dX8_stepOn_26 rfl rfl ?_
      refine ph_dup_r X dX8_stepOn_27 ?_
      refine tw_geti 15 X hP q1785 dX8_stepOn_28 ?_
      refine lv_iconst (v := 1) X.1 X.2.1 dX8_stepOn_31 (by decide) ?_
      refine lv_iadd X.1 X.2.1 dX8_stepOn_32 ?_
      refine tw_puti 15 X hP q1785 dX8_stepOn_33 hF (fun H locs σ22 hP hF => ?_)
      refine lv_goto (tgt := 0) X.1 X.2.1 dX8_stepOn_36 (by decide) ?_
      exact ih _ _ _ _ hF hP hl
    · have hF := hF.2 c48
      refine ph_aload_n (n := 0) X hl dX8_stepOn_13 rfl rfl ?_
      refine ph_aload_n (n := 0) X hl dX8_stepOn_14 rfl rfl ?_
      refine tw_geti 15 X hP q1785 dX8_stepOn_15 ?_
      refine tw_callVi [iX (σ20 0 15)] X hP (met_X8_byteAt l D dA ad _ _ hF) (cwV 1 X.2.2.2.2.1 (lw_V q2010 q2012 qs46 q126 q2013) rfl rfl rfl (by decide +kernel) ⟨Nat.le_of_ble_eq_true rfl, Nat.le_of_ble_eq_true rfl⟩) rfl hl (k8 := 0) (cs0 (k := 0)) (by decide) ⟨Nat.le_refl _, Nat.le_refl _⟩ dX8_stepOn_18 rfl (fun r24 σ23 H locs hF hP => ?_)
      refine lv_bipush (v := 10) X.1 X.2.1 dX8_stepOn_21 (by decide) ?_
      refine lv_icmp_ne (tgt := 39) X.1 X.2.1 dX8_stepOn_23 (by decide) (fun c47 => ?_) (fun c47 => ?_)
      · have hF := hF.1 c47
        refine ph_aload_n (n := 0) X hl dX8_stepOn_39 rfl rfl ?_
        refine ph_aload_n (n := 0) X hl dX8_stepOn_40 rfl rfl ?_
        refine tw_geti 15 X hP q1785 dX8_stepOn_41 ?_
        refine tw_puti 19 X hP q1789 dX8_stepOn_44 hF (fun H locs σ25 hP hF => ?_)
        refine ph_aload_n (n := 0) X hl dX8_stepOn_47 rfl rfl ?_
        refine ph_aload_n (n := 0) X hl dX8_stepOn_48 rfl rfl ?_
        refine tw_geti 15 X hP q1785 dX8_stepOn_49 ?_
        refine tw_callVi [iX (σ25 0 15)] X hP (met_X8_byteAt l D dA ad _ _ hF) (cwV 1 X.2.2.2.2.1 (lw_V q2010 q2012 qs46 q126 q2013) rfl rfl rfl (by decide +kernel) ⟨Nat.le_of_ble_eq_true rfl, Nat.le_of_ble_eq_true rfl⟩) rfl hl (k8 := 0) (cs0 (k := 0)) (by decide) ⟨Nat.le_refl _, Nat.le_refl _⟩ dX8_stepOn_52 rfl (fun r27 σ26 H locs hF hP => ?_)
        refine ph_istore_n X hl dX8_stepOn_55 rfl (by decide) rfl (fun ls hl => ?_)
        refine ph_iload_n (n := 0) X hl dX8_stepOn_56 rfl rfl ?_
        refine lv_iconst (v := (-1)) X.1 X.2.1 dX8_stepOn_57 (by decide) ?_
        refine lv_icmp_ne (tgt := 69) X.1 X.2.1 dX8_stepOn_58 (by decide) (fun c45 => ?_) (fun c45 => ?_)
        · have hF := hF.1 c45
          refine ph_iload_n (n := 0) X hl dX8_stepOn_69 rfl rfl ?_
          refine tw_callSi [iX r27] X hP (met_X8_isLetter l D dA ad _ _ hF) (va_cwS 1 X.2.2.2.2.1 (lw_S q2014 q2015 q126 q2016) rfl rfl rfl (by decide +kernel) ⟨Nat.le_of_ble_eq_true rfl, Nat.le_of_ble_eq_true rfl⟩) rfl hl (k8 := 0) (cs0 (k := 0)) (by decide) ⟨Nat.le_refl _, Nat.le_refl _⟩ dX8_stepOn_70 rfl (fun r29 σ28 H locs hF hP => ?_)
          refine lv_if_eq (tgt := 111) X.1 X.2.1 dX8_stepOn_73 (by decide) (fun c42 => ?_) (fun c42 => ?_)
          · have hF := hF.1 c42
            refine ph_iload_n (n := 0) X hl dX8_stepOn_111 rfl rfl ?_
            refine tw_callSi [iX r27] X hP (met_X8_isDigit l D dA ad _ _ hF) (va_cwS 1 X.2.2.2.2.1 (lw_S q2017 q2018 q126 q2019) rfl rfl rfl (by decide +kernel) ⟨Nat.le_of_ble_eq_true rfl, Nat.le_of_ble_eq_true rfl⟩) rfl hl (k8 := 0) (cs0 (k := 0)) (by decide) ⟨Nat.le_refl _, Nat.le_refl _⟩ dX8_stepOn_112 rfl (fun r31 σ30 H locs hF hP => ?_)
            refine lv_if_eq (tgt := 186) X.1 X.2.1 dX8_stepOn_115 (by decide) (fun c41 => ?_) (fun c41 => ?_)
            · have hF := hF.1 c41
              refine ph_aload_n (n := 1) X hl dX8_stepOn_186 rfl rfl ?_
              refine ph_dup_r X dX8_stepOn_187 ?_
              refine tw_geti 15 X hP q1785 dX8_stepOn_188 ?_
              refine lv_iconst (v := 1) X.1 X.2.1 dX8_stepOn_191 (by decide) ?_
              refine lv_iadd X.1 X.2.1 dX8_stepOn_192 ?_
              refine tw_puti 15 X hP q1785 dX8_stepOn_193 hF (fun H locs σ32 hP hF => ?_)
              refine ph_aload_n (n := 1) X hl dX8_stepOn_196 rfl rfl ?_
              refine ph_iload_n (n := 0) X hl dX8_stepOn_197 rfl rfl ?_
              refine tw_callSi [iX r27] X hP (met_X8_isMark l D dA ad _ _ hF) (va_cwS 1 X.2.2.2.2.1 (lw_S q2022 q2023 q126 q2024) rfl rfl rfl (by decide +kernel) ⟨Nat.le_of_ble_eq_true rfl, Nat.le_of_ble_eq_true rfl⟩) rfl hl (k8 := 1) (csr (cs0 (k := 0))) (by decide) ⟨Nat.le_refl _, Nat.le_refl _⟩ dX8_stepOn_198 rfl (fun r34 σ33 H locs hF hP => ?_)
              refine lv_if_eq (tgt := 208) X.1 X.2.1 dX8_stepOn_201 (by decide) (fun c39 => ?_) (fun c39 => ?_)
              · have hF := hF.1 c39
                refine lv_iconst (v := 4) X.1 X.2.1 dX8_stepOn_208 (by decide) ?_
                refine tw_puti 17 X hP q1787 dX8_stepOn_209 hF (fun H locs σ35 hP hF => ?_)
                refine ph_aload_n (n := 1) X hl dX8_stepOn_212 rfl rfl ?_
                refine ph_aload_n (n := 1) X hl dX8_stepOn_213 rfl rfl ?_
                refine tw_geti 15 X hP q1785 dX8_stepOn_214 ?_
                refine tw_puti 20 X hP q1790 dX8_stepOn_217 hF (fun H locs σ36 hP hF => ?_)
                exact tw_vret X hP hF dX8_stepOn_220
              · have hF := hF.2 c39
                refine lv_iconst (v := 3) X.1 X.2.1 dX8_stepOn_204 (by decide) ?_
                refine lv_goto (tgt := 209) X.1 X.2.1 dX8_stepOn_205 (by decide) ?_
                refine tw_puti 17 X hP q1787 dX8_stepOn_209 hF (fun H locs σ37 hP hF => ?_)
                refine ph_aload_n (n := 1) X hl dX8_stepOn_212 rfl rfl ?_
                refine ph_aload_n (n := 1) X hl dX8_stepOn_213 rfl rfl ?_
                refine tw_geti 15 X hP q1785 dX8_stepOn_214 ?_
                refine tw_puti 20 X hP q1790 dX8_stepOn_217 hF (fun H locs σ38 hP hF => ?_)
                exact tw_vret X hP hF dX8_stepOn_220
            · have hF := hF.2 c41
              refine ph_aload_n (n := 1) X hl dX8_stepOn_118 rfl rfl ?_
              refine lv_iconst (v := 0) X.1 X.2.1 dX8_stepOn_119 (by decide) ?_
              refine tw_puti 18 X hP q1788 dX8_stepOn_120 hF (fun H locs σ40 hP hF => ?_)
              obtain ⟨n9, hF⟩ := hF
              exact w_X8_stepOn_123 X n9 _ _ _ _ hF hP (lh_sub hl [1] rfl)
          · have hF := hF.2 c42
            obtain ⟨n9, hF⟩ := hF
            exact w_X8_stepOn_76 X n9 _ _ _ _ hF hP (lh_sub hl [1] rfl)
        · have hF := hF.2 c45
          refine ph_aload_n (n := 1) X hl dX8_stepOn_61 rfl rfl ?_
          refine lv_iconst (v := 0) X.1 X.2.1 dX8_stepOn_62 (by decide) ?_
          refine tw_puti 17 X hP q1787 dX8_stepOn_63 hF (fun H locs σ43 hP hF => ?_)
          refine lv_goto (tgt := 212) X.1 X.2.1 dX8_stepOn_66 (by decide) ?_
          refine ph_aload_n (n := 1) X hl dX8_stepOn_212 rfl rfl ?_
          refine ph_aload_n (n := 1) X hl dX8_stepOn_213 rfl rfl ?_
          refine tw_geti 15 X hP q1785 dX8_stepOn_214 ?_
          refine tw_puti 20 X hP q1790 dX8_stepOn_217 hF (fun H locs σ44 hP hF => ?_)
          exact tw_vret X hP hF dX8_stepOn_220
      · have hF := hF.2 c47
        refine ph_aload_n (n := 0) X hl dX8_stepOn_26 rfl rfl ?_
        refine ph_dup_r X dX8_stepOn_27 ?_
        refine tw_geti 15 X hP q1785 dX8_stepOn_28 ?_
        refine lv_iconst (v := 1) X.1 X.2.1 dX8_stepOn_31 (by decide) ?_
        refine lv_iadd X.1 X.2.1 dX8_stepOn_32 ?_
        refine tw_puti 15 X hP q1785 dX8_stepOn_33 hF (fun H locs σ46 hP hF => ?_)
        refine lv_goto (tgt := 0) X.1 X.2.1 dX8_stepOn_36 (by decide) ?_
        exact ih _ _ _ _ hF hP hl
set_option maxHeartbeats 2000000 in
theorem met_X8_stepOn (l : Launch) (D : va_G) (dA : Nat → ClassId) (ad : Nat → Nat) (σ : S) (sz : Nat) {Q : S → Prop} (hF : P_X8_stepOn  σ Q) : CTv l yX8_stepOn cX8_stepOn 2 ({ frames := 1, cells := 0, slots := 0, locals := 21 } : Room) D dA ad σ sz [pX 200] Q := by
  unfold P_X8_stepOn at hF
  refine ph_enter [pX 200] (Qc := fun A => va_Qv (TQv Q) (CB D dA ad A) A) (by decide +kernel) (Nat.le_of_ble_eq_true rfl) ?_
  intro p e s m args below meth c A ls X hP hl hnm
  have hl : LH ad ls 2 [(0, pX 200)] := hl
  obtain ⟨n9, hF⟩ := hF
  exact w_X8_stepOn_0 X n9 _ _ _ _ hF hP hl
def P_X8_wrong (a1 : Int32) (σ : S) (Q : S → Prop) : Prop := (((σ 0 21) = 0 → (∀ σ1, σ1 = up2 σ 0 21 a1 → (∀ σ2, σ2 = up2 σ1 0 22 (σ1 0 19) → (Q σ2)))) ∧ (¬ (σ 0 21) = 0 → (Q σ)))
set_option maxHeartbeats 2000000 in
theorem met_X8_wrong (l : Launch) (D : va_G) (dA : Nat → ClassId) (ad : Nat → Nat) (σ : S) (sz : Nat) {a1 : Int32} {Q : S → Prop} (hF : P_X8_wrong a1 σ Q) : CTv l yX8_wrong cX8_wrong 2 ({ frames := 0, cells := 0, slots := 0, locals := 0 } : Room) D dA ad σ sz [pX 200, iX a1] Q := by
  unfold P_X8_wrong at hF
  refine ph_enter [pX 200, iX a1] (Qc := fun A => va_Qv (TQv Q) (CB D dA ad A) A) (by decide +kernel) (Nat.le_of_ble_eq_true rfl) ?_
  intro p e s m args below meth c A ls X hP hl hnm
  have hl : LH ad ls 2 [(0, pX 200), (1, iX a1)] := hl
  refine ph_aload_n (n := 0) X hl dX8_wrong_0 rfl rfl ?_
  refine tw_geti 21 X hP q1791 dX8_wrong_1 ?_
  refine lv_if_eq (tgt := 8) X.1 X.2.1 dX8_wrong_4 (by decide) (fun c3 => ?_) (fun c3 => ?_)
  · have hF := hF.1 c3
    refine ph_aload_n (n := 0) X hl dX8_wrong_8 rfl rfl ?_
    refine ph_iload_n (n := 1) X hl dX8_wrong_9 rfl rfl ?_
    refine tw_puti 21 X hP q1791 dX8_wrong_10 hF (fun H locs σ1 hP hF => ?_)
    refine ph_aload_n (n := 0) X hl dX8_wrong_13 rfl rfl ?_
    refine ph_aload_n (n := 0) X hl dX8_wrong_14 rfl rfl ?_
    refine tw_geti 19 X hP q1789 dX8_wrong_15 ?_
    refine tw_puti 22 X hP q1792 dX8_wrong_18 hF (fun H locs σ2 hP hF => ?_)
    exact tw_vret X hP hF dX8_wrong_21
  · have hF := hF.2 c3
    exact tw_vret X hP hF dX8_wrong_7
def P_X8_is_39 (Q : Int32 → S → Prop) : Nat → Nat → Int32 → Int32 → S → Prop
  | 0, _, _, _, _ => False
  | n + 1, x1, x2, x3, σ => ((x2 = 0 → (isB x2 ∧ Q x2 σ)) ∧ (¬ x2 = 0 → (isStr x1 ∧ (((sLen x1) ≤ x3 → (isB x2 ∧ Q x2 σ)) ∧ (¬ (sLen x1) ≤ x3 → ((isStr x1 ∧ vp_in x3 (sLn x1)) ∧ (vp_in ((σ 0 19) + x3) 600 ∧ ((¬ (sCh x1 x3.toNatClampNeg) = (σ 13 (((σ 0 19) + x3).toNatClampNeg)) → (P_X8_is_39 Q  n x1 0 (x3 + 1) σ)) ∧ ((sCh x1 x3.toNatClampNeg) = (σ 13 (((σ 0 19) + x3).toNatClampNeg)) → (P_X8_is_39 Q  n x1 1 (x3 + 1) σ))))))))))
def P_X8_is (a1 : Nat) (σ : S) (Q : Int32 → S → Prop) : Prop := ((¬ (σ 0 21) = 0 → (∃ n9, P_X8_is_39 Q n9 a1 0 0 σ)) ∧ ((σ 0 21) = 0 → ((¬ (σ 0 17) = 1 → (∃ n9, P_X8_is_39 Q n9 a1 0 0 σ)) ∧ ((σ 0 17) = 1 → (isStr a1 ∧ ((¬ (sLen a1) = ((σ 0 20) - (σ 0 19)) → (∃ n9, P_X8_is_39 Q n9 a1 0 0 σ)) ∧ ((sLen a1) = ((σ 0 20) - (σ 0 19)) → (∃ n9, P_X8_is_39 Q n9 a1 1 0 σ))))))))
set_option maxHeartbeats 2000000 in
theorem w_X8_is_39 (X : CX p s m args c meth cX8_is 4 (some .boolean) RX8 D dA ad A) {Q : Int32 → S → Prop} : ∀ (n : Nat) (x1 : Nat) (x2 : Int32) (x3 : Int32) (σ : S) (H : Heap) (locs : List Loc) (ls : Array Slot), P_X8_is_39 Q n x1 x2 x3 σ → PW D dA A s.heap ad (TH σ) H locs → LH ad ls 4 [(0, pX 200), (1, pX x1), (2, iX x2), (3, iX x3)] → WTi p l e ({ frames := 8, cells := 0, slots := 0, locals := 200 } : Room) s m args below meth c D dA ad A Q H locs (F0 m 39 ls []) := by
  intro n
  induction n with
  | zero =>
    intro x1 x2 x3 σ H locs ls hF
    exact hF.elim
  | succ n ih =>
    intro x1 x2 x3 σ H locs ls hF hP hl
    rw [P_X8_is_39] at hF
    refine ph_iload_n (n := 2) X hl dX8_is_39 rfl rfl ?_
    refine lv_if_eq (tgt := 82) X.1 X.2.1 dX8_is_40 (by decide) (fun c6 => ?_) (fun c6 => ?_)
    · have hF := hF.1 c6
      refine ph_iload_n (n := 2) X hl dX8_is_82 rfl rfl ?_
      exact tw_zret X hP hF.1 hF.2 dX8_is_83
    · have hF := hF.2 c6
      refine ph_iload_n (n := 3) X hl dX8_is_43 rfl rfl ?_
      refine ph_aload_n (n := 1) X hl dX8_is_44 rfl rfl ?_
      obtain ⟨hs1, hF⟩ := hF
      refine tw_slen X hP hl hs1 q2034 (k8 := 1) (csi (cs0 (k := 0))) (by decide) ⟨Nat.le_of_ble_eq_true rfl, Nat.le_of_ble_eq_true rfl⟩ dX8_is_45 ⟨Nat.le_refl _, Nat.le_refl _⟩ (fun H locs hP => ?_)
      refine lv_icmp_ge (tgt := 82) X.1 X.2.1 dX8_is_48 (by decide) (fun c5 => ?_) (fun c5 => ?_)
      · have hF := hF.1 c5
        refine ph_iload_n (n := 2) X hl dX8_is_82 rfl rfl ?_
        exact tw_zret X hP hF.1 hF.2 dX8_is_83
      · have hF := hF.2 c5
        refine ph_aload_n (n := 1) X hl dX8_is_51 rfl rfl ?_
        refine ph_iload_n (n := 3) X hl dX8_is_52 rfl rfl ?_
        obtain ⟨hs2, hF⟩ := hF
        refine tw_sch X hP hl hs2.1 hs2.2 q2035 (k8 := 0) (cs0 (k := 0)) (by decide) ⟨Nat.le_of_ble_eq_true rfl, Nat.le_of_ble_eq_true rfl⟩ dX8_is_53 ⟨Nat.le_refl _, Nat.le_refl _⟩ (fun H locs hP => ?_)
        refine ph_aload_n (n := 0) X hl dX8_is_56 rfl rfl ?_
        refine tw_getr 13 213 X hP q1783 dX8_is_57 ?_
        refine ph_aload_n (n := 0) X hl dX8_is_60 rfl rfl ?_
        refine tw_geti 19 X hP q1789 dX8_is_61 ?_
        refine ph_iload_n (n := 3) X hl dX8_is_64 rfl rfl ?_
        refine lv_iadd X.1 X.2.1 dX8_is_65 ?_
        obtain ⟨hr3, hF⟩ := hF
        refine tw_ald 13 (n := 600) X hP hr3 (k := ((σ 0 19) + x3).toNatClampNeg) rfl dX8_is_66 ?_
        refine lv_icmp_ne (tgt := 74) X.1 X.2.1 dX8_is_67 (by decide) (fun c4 => ?_) (fun c4 => ?_)
        · have hF := hF.1 c4
          refine lv_iconst (v := 0) X.1 X.2.1 dX8_is_74 (by decide) ?_
          refine ph_istore_n X hl dX8_is_75 rfl (by decide) rfl (fun ls hl => ?_)
          refine ph_iinc (v := x3 + 1) (k := 3) X hl dX8_is_76 rfl rfl (by decide) rfl (fun ls hl => ?_)
          refine lv_goto (tgt := 39) X.1 X.2.1 dX8_is_79 (by decide) ?_
          exact ih _ _ _ _ _ _ _ hF hP (lh_sub hl [2, 3, 1, 0] rfl)
        · have hF := hF.2 c4
          refine lv_iconst (v := 1) X.1 X.2.1 dX8_is_70 (by decide) ?_
          refine lv_goto (tgt := 75) X.1 X.2.1 dX8_is_71 (by decide) ?_
          refine ph_istore_n X hl dX8_is_75 rfl (by decide) rfl (fun ls hl => ?_)
          refine ph_iinc (v := x3 + 1) (k := 3) X hl dX8_is_76 rfl rfl (by decide) rfl (fun ls hl => ?_)
          refine lv_goto (tgt := 39) X.1 X.2.1 dX8_is_79 (by decide) ?_
          exact ih _ _ _ _ _ _ _ hF hP (lh_sub hl [2, 3, 1, 0] rfl)
set_option maxHeartbeats 2000000 in
theorem met_X8_is (l : Launch) (D : va_G) (dA : Nat → ClassId) (ad : Nat → Nat) (σ : S) (sz : Nat) {a1 : Nat} {Q : Int32 → S → Prop} (hF : P_X8_is a1 σ Q) : CTi l yX8_is cX8_is 4 .boolean ({ frames := 8, cells := 0, slots := 0, locals := 200 } : Room) D dA ad σ sz [pX 200, pX a1] Q := by
  unfold P_X8_is at hF
  refine ph_enter [pX 200, pX a1] (Qc := fun A => va_Qi (TQi Q) (CB D dA ad A) A) (by decide +kernel) (Nat.le_of_ble_eq_true rfl) ?_
  intro p e s m args below meth c A ls X hP hl hnm
  have hl : LH ad ls 4 [(0, pX 200), (1, pX a1)] := hl
  refine ph_aload_n (n := 0) X hl dX8_is_0 rfl rfl ?_
  refine tw_geti 21 X hP q1791 dX8_is_1 ?_
  refine lv_if_ne (tgt := 35) X.1 X.2.1 dX8_is_4 (by decide) (fun c10 => ?_) (fun c10 => ?_)
  · have hF := hF.1 c10
    refine lv_iconst (v := 0) X.1 X.2.1 dX8_is_35 (by decide) ?_
    refine ph_istore_n X hl dX8_is_36 rfl (by decide) rfl (fun ls hl => ?_)
    refine lv_iconst (v := 0) X.1 X.2.1 dX8_is_37 (by decide) ?_
    refine ph_istore_n X hl dX8_is_38 rfl (by decide) rfl (fun ls hl => ?_)
    obtain ⟨n9, hF⟩ := hF
    exact w_X8_is_39 X n9 _ _ _ _ _ _ _ hF hP (lh_sub hl [2, 3, 1, 0] rfl)
  · have hF := hF.2 c10
    refine ph_aload_n (n := 0) X hl dX8_is_7 rfl rfl ?_
    refine tw_geti 17 X hP q1787 dX8_is_8 ?_
    refine lv_iconst (v := 1) X.1 X.2.1 dX8_is_11 (by decide) ?_
    refine lv_icmp_ne (tgt := 35) X.1 X.2.1 dX8_is_12 (by decide) (fun c9 => ?_) (fun c9 => ?_)
    · have hF := hF.1 c9
      refine lv_iconst (v := 0) X.1 X.2.1 dX8_is_35 (by decide) ?_
      refine ph_istore_n X hl dX8_is_36 rfl (by decide) rfl (fun ls hl => ?_)
      refine lv_iconst (v := 0) X.1 X.2.1 dX8_is_37 (by decide) ?_
      refine ph_istore_n X hl dX8_is_38 rfl (by decide) rfl (fun ls hl => ?_)
      obtain ⟨n9, hF⟩ := hF
      exact w_X8_is_39 X n9 _ _ _ _ _ _ _ hF hP (lh_sub hl [2, 3, 1, 0] rfl)
    · have hF := hF.2 c9
      refine ph_aload_n (n := 1) X hl dX8_is_15 rfl rfl ?_
      obtain ⟨hs7, hF⟩ := hF
      refine tw_slen X hP hl hs7 q2034 (k8 := 0) (cs0 (k := 0)) (by decide) ⟨Nat.le_of_ble_eq_true rfl, Nat.le_of_ble_eq_true rfl⟩ dX8_is_16 ⟨Nat.le_refl _, Nat.le_refl _⟩ (fun H locs hP => ?_)
      refine ph_aload_n (n := 0) X hl dX8_is_19 rfl rfl ?_
      refine tw_geti 20 X hP q1790 dX8_is_20 ?_
      refine ph_aload_n (n := 0) X hl dX8_is_23 rfl rfl ?_
      refine tw_geti 19 X hP q1789 dX8_is_24 ?_
      refine lv_isub X.1 X.2.1 dX8_is_27 ?_
      refine lv_icmp_ne (tgt := 35) X.1 X.2.1 dX8_is_28 (by decide) (fun c8 => ?_) (fun c8 => ?_)
      · have hF := hF.1 c8
        refine lv_iconst (v := 0) X.1 X.2.1 dX8_is_35 (by decide) ?_
        refine ph_istore_n X hl dX8_is_36 rfl (by decide) rfl (fun ls hl => ?_)
        refine lv_iconst (v := 0) X.1 X.2.1 dX8_is_37 (by decide) ?_
        refine ph_istore_n X hl dX8_is_38 rfl (by decide) rfl (fun ls hl => ?_)
        obtain ⟨n9, hF⟩ := hF
        exact w_X8_is_39 X n9 _ _ _ _ _ _ _ hF hP (lh_sub hl [2, 3, 1, 0] rfl)
      · have hF := hF.2 c8
        refine lv_iconst (v := 1) X.1 X.2.1 dX8_is_31 (by decide) ?_
        refine lv_goto (tgt := 36) X.1 X.2.1 dX8_is_32 (by decide) ?_
        refine ph_istore_n X hl dX8_is_36 rfl (by decide) rfl (fun ls hl => ?_)
        refine lv_iconst (v := 0) X.1 X.2.1 dX8_is_37 (by decide) ?_
        refine ph_istore_n X hl dX8_is_38 rfl (by decide) rfl (fun ls hl => ?_)
        obtain ⟨n9, hF⟩ := hF
        exact w_X8_is_39 X n9 _ _ _ _ _ _ _ hF hP (lh_sub hl [2, 3, 1, 0] rfl)
def P_X8_which_2 (Q : Int32 → S → Prop) : Nat → Nat → Int32 → S → Prop
  | 0, _, _, _ => False
  | n + 1, x1, x2, σ => (tK x1 = 111 ∧ (((nI (tL x1)) ≤ x2 → (Q (-1) σ)) ∧ (¬ (nI (tL x1)) ≤ x2 → ((tK x1 = 111 ∧ vp_in x2 (tL x1)) ∧ (P_X8_is (tR x1 (x2.toNatClampNeg)) σ (fun r4 σ3 => ((r4 = 0 → (P_X8_which_2 Q  n x1 (x2 + 1) σ3)) ∧ (¬ r4 = 0 → (Q x2 σ3)))))))))
def P_X8_which (a1 : Nat) (σ : S) (Q : Int32 → S → Prop) : Prop := (∃ n9, P_X8_which_2 Q n9 a1 0 σ)
set_option maxHeartbeats 2000000 in
theorem w_X8_which_2 (X : CX p s m args c meth cX8_which 3 (some .int) RX8 D dA ad A) {Q : Int32 → S → Prop} : ∀ (n : Nat) (x1 : Nat) (x2 : Int32) (σ : S) (H : Heap) (locs : List Loc) (ls : Array Slot), P_X8_which_2 Q n x1 x2 σ → PW D dA A s.heap ad (TH σ) H locs → LH ad ls 3 [(0, pX 200), (1, pX x1), (2, iX x2)] → WTi p l e ({ frames := 9, cells := 0, slots := 0, locals := 223 } : Room) s m args below meth c D dA ad A Q H locs (F0 m 2 ls []) := by
  intro n
  induction n with
  | zero =>
    intro x1 x2 σ H locs ls hF
    exact hF.elim
  | succ n ih =>
    intro x1 x2 σ H locs ls hF hP hl
    rw [P_X8_which_2] at hF
    refine ph_iload_n (n := 2) X hl dX8_which_2 rfl rfl ?_
    refine ph_aload_n (n := 1) X hl dX8_which_3 rfl rfl ?_
    obtain ⟨hr1, hF⟩ := hF
    refine tw_alenS X hP dX8_which_4 hr1 rfl (x := nI (tL x1)) rfl ?_
    refine lv_icmp_ge (tgt := 26) X.1 X.2.1 dX8_which_5 (by decide) (fun c6 => ?_) (fun c6 => ?_)
    · have hF := hF.1 c6
      refine lv_iconst (v := (-1)) X.1 X.2.1 dX8_which_26 (by decide) ?_
      exact tw_iret X hP hF dX8_which_27
    · have hF := hF.2 c6
      refine ph_aload_n (n := 0) X hl dX8_which_8 rfl rfl ?_
      refine ph_aload_n (n := 1) X hl dX8_which_9 rfl rfl ?_
      refine ph_iload_n (n := 2) X hl dX8_which_10 rfl rfl ?_
      obtain ⟨hr2, hF⟩ := hF
      refine tw_aldS X hP hr2.2 (k := x2.toNatClampNeg) rfl dX8_which_11 hr2.1 rfl ?_
      refine tw_callVi [pX (tR x1 (x2.toNatClampNeg))] X hP (met_X8_is l D dA ad _ _ hF) (cwV 1 X.2.2.2.2.1 (lw_V q2030 q2032 qs48 q126 q2033) rfl rfl rfl (by decide +kernel) ⟨Nat.le_of_ble_eq_true rfl, Nat.le_of_ble_eq_true rfl⟩) rfl hl (k8 := 0) (cs0 (k := 0)) (by decide) ⟨Nat.le_refl _, Nat.le_refl _⟩ dX8_which_12 rfl (fun r4 σ3 H locs hF hP => ?_)
      refine lv_if_eq (tgt := 20) X.1 X.2.1 dX8_which_15 (by decide) (fun c5 => ?_) (fun c5 => ?_)
      · have hF := hF.1 c5
        refine ph_iinc (v := x2 + 1) (k := 2) X hl dX8_which_20 rfl rfl (by decide) rfl (fun ls hl => ?_)
        refine lv_goto (tgt := 2) X.1 X.2.1 dX8_which_23 (by decide) ?_
        exact ih _ _ _ _ _ _ hF hP (lh_sub hl [1, 2, 0] rfl)
      · have hF := hF.2 c5
        refine ph_iload_n (n := 2) X hl dX8_which_18 rfl rfl ?_
        exact tw_iret X hP hF dX8_which_19
set_option maxHeartbeats 2000000 in
theorem met_X8_which (l : Launch) (D : va_G) (dA : Nat → ClassId) (ad : Nat → Nat) (σ : S) (sz : Nat) {a1 : Nat} {Q : Int32 → S → Prop} (hF : P_X8_which a1 σ Q) : CTi l yX8_which cX8_which 3 .int ({ frames := 9, cells := 0, slots := 0, locals := 223 } : Room) D dA ad σ sz [pX 200, pX a1] Q := by
  unfold P_X8_which at hF
  refine ph_enter [pX 200, pX a1] (Qc := fun A => va_Qi (TQi Q) (CB D dA ad A) A) (by decide +kernel) (Nat.le_of_ble_eq_true rfl) ?_
  intro p e s m args below meth c A ls X hP hl hnm
  have hl : LH ad ls 3 [(0, pX 200), (1, pX a1)] := hl
  refine lv_iconst (v := 0) X.1 X.2.1 dX8_which_0 (by decide) ?_
  refine ph_istore_n X hl dX8_which_1 rfl (by decide) rfl (fun ls hl => ?_)
  obtain ⟨n9, hF⟩ := hF
  exact w_X8_which_2 X n9 _ _ _ _ _ _ hF hP (lh_sub hl [1, 2, 0] rfl)
def P_X8_isMarked (a1 : Int32) (σ : S) (Q : Int32 → S → Prop) : Prop := ((¬ (σ 0 21) = 0 → (Q 0 σ)) ∧ ((σ 0 21) = 0 → ((¬ (σ 0 17) = 3 → (Q 0 σ)) ∧ ((σ 0 17) = 3 → (vp_in (σ 0 19) 600 ∧ ((¬ (σ 13 ((σ 0 19).toNatClampNeg)) = a1 → (Q 0 σ)) ∧ ((σ 13 ((σ 0 19).toNatClampNeg)) = a1 → (Q 1 σ))))))))
set_option maxHeartbeats 2000000 in
theorem met_X8_isMarked (l : Launch) (D : va_G) (dA : Nat → ClassId) (ad : Nat → Nat) (σ : S) (sz : Nat) {a1 : Int32} {Q : Int32 → S → Prop} (hF : P_X8_isMarked a1 σ Q) : CTi l yX8_isMarked cX8_isMarked 2 .boolean ({ frames := 0, cells := 0, slots := 0, locals := 0 } : Room) D dA ad σ sz [pX 200, iX a1] Q := by
  unfold P_X8_isMarked at hF
  refine ph_enter [pX 200, iX a1] (Qc := fun A => va_Qi (TQi Q) (CB D dA ad A) A) (by decide +kernel) (Nat.le_of_ble_eq_true rfl) ?_
  intro p e s m args below meth c A ls X hP hl hnm
  have hl : LH ad ls 2 [(0, pX 200), (1, iX a1)] := hl
  refine ph_aload_n (n := 0) X hl dX8_isMarked_0 rfl rfl ?_
  refine tw_geti 21 X hP q1791 dX8_isMarked_1 ?_
  refine lv_if_ne (tgt := 32) X.1 X.2.1 dX8_isMarked_4 (by decide) (fun c4 => ?_) (fun c4 => ?_)
  · have hF := hF.1 c4
    refine lv_iconst (v := 0) X.1 X.2.1 dX8_isMarked_32 (by decide) ?_
    exact tw_zret X hP isB_0 hF dX8_isMarked_33
  · have hF := hF.2 c4
    refine ph_aload_n (n := 0) X hl dX8_isMarked_7 rfl rfl ?_
    refine tw_geti 17 X hP q1787 dX8_isMarked_8 ?_
    refine lv_iconst (v := 3) X.1 X.2.1 dX8_isMarked_11 (by decide) ?_
    refine lv_icmp_ne (tgt := 32) X.1 X.2.1 dX8_isMarked_12 (by decide) (fun c3 => ?_) (fun c3 => ?_)
    · have hF := hF.1 c3
      refine lv_iconst (v := 0) X.1 X.2.1 dX8_isMarked_32 (by decide) ?_
      exact tw_zret X hP isB_0 hF dX8_isMarked_33
    · have hF := hF.2 c3
      refine ph_aload_n (n := 0) X hl dX8_isMarked_15 rfl rfl ?_
      refine tw_getr 13 213 X hP q1783 dX8_isMarked_16 ?_
      refine ph_aload_n (n := 0) X hl dX8_isMarked_19 rfl rfl ?_
      refine tw_geti 19 X hP q1789 dX8_isMarked_20 ?_
      obtain ⟨hr1, hF⟩ := hF
      refine tw_ald 13 (n := 600) X hP hr1 (k := (σ 0 19).toNatClampNeg) rfl dX8_isMarked_23 ?_
      refine ph_iload_n (n := 1) X hl dX8_isMarked_24 rfl rfl ?_
      refine lv_icmp_ne (tgt := 32) X.1 X.2.1 dX8_isMarked_25 (by decide) (fun c2 => ?_) (fun c2 => ?_)
      · have hF := hF.1 c2
        refine lv_iconst (v := 0) X.1 X.2.1 dX8_isMarked_32 (by decide) ?_
        exact tw_zret X hP isB_0 hF dX8_isMarked_33
      · have hF := hF.2 c2
        refine lv_iconst (v := 1) X.1 X.2.1 dX8_isMarked_28 (by decide) ?_
        refine lv_goto (tgt := 33) X.1 X.2.1 dX8_isMarked_29 (by decide) ?_
        exact tw_zret X hP isB_1 hF dX8_isMarked_33
def P_X8_mark_20 (Q : S → Prop)  (σ : S) : Prop := ((¬ (σ 0 21) = 0 → (Q σ)) ∧ ((σ 0 21) = 0 → (P_X8_stepOn σ (fun σ1 => (Q σ1)))))
def P_X8_mark (a1 : Int32) (σ : S) (Q : S → Prop) : Prop := ((¬ (σ 0 21) = 0 → (P_X8_mark_20 Q σ)) ∧ ((σ 0 21) = 0 → (P_X8_isMarked a1 σ (fun r5 σ4 => ((¬ r5 = 0 → (P_X8_mark_20 Q σ4)) ∧ (r5 = 0 → (P_X8_wrong 1 σ4 (fun σ6 => (P_X8_mark_20 Q σ6)))))))))
set_option maxHeartbeats 2000000 in
theorem w_X8_mark_20 (X : CX p s m args c meth cX8_mark 2 none RX8 D dA ad A) {Q : S → Prop} : ∀  (σ : S) (H : Heap) (locs : List Loc) (ls : Array Slot), P_X8_mark_20 Q  σ → PW D dA A s.heap ad (TH σ) H locs → LH ad ls 2 [(0, pX 200)] → WTv p l e ({ frames := 2, cells := 0, slots := 0, locals := 42 } : Room) s m args below meth c D dA ad A Q H locs (F0 m 20 ls []) := by
  intro  σ H locs ls hF hP hl
  unfold P_X8_mark_20 at hF
  refine ph_aload_n (n := 0) X hl dX8_mark_20 rfl rfl ?_
  refine tw_geti 21 X hP q1791 dX8_mark_21 ?_
  refine lv_if_ne (tgt := 31) X.1 X.2.1 dX8_mark_24 (by decide) (fun c3 => ?_) (fun c3 => ?_)
  · have hF := hF.1 c3
    exact tw_vret X hP hF dX8_mark_31
  · have hF := hF.2 c3
    refine ph_aload_n (n := 0) X hl dX8_mark_27 rfl rfl ?_
    refine tw_callVv [] X hP (met_X8_stepOn l D dA ad _ _ hF) (cwV 0 X.2.2.2.2.1 (lw_V q2006 q2008 qs45 q126 q2009) rfl rfl rfl (by decide +kernel) ⟨Nat.le_of_ble_eq_true rfl, Nat.le_of_ble_eq_true rfl⟩) rfl hl (k8 := 0) (cs0 (k := 0)) (by decide) ⟨Nat.le_refl _, Nat.le_refl _⟩ dX8_mark_28 rfl (fun σ1 H locs hF hP => ?_)
    exact tw_vret X hP hF dX8_mark_31
set_option maxHeartbeats 2000000 in
theorem met_X8_mark (l : Launch) (D : va_G) (dA : Nat → ClassId) (ad : Nat → Nat) (σ : S) (sz : Nat) {a1 : Int32} {Q : S → Prop} (hF : P_X8_mark a1 σ Q) : CTv l yX8_mark cX8_mark 2 ({ frames := 2, cells := 0, slots := 0, locals := 42 } : Room) D dA ad σ sz [pX 200, iX a1] Q := by
  unfold P_X8_mark at hF
  refine ph_enter [pX 200, iX a1] (Qc := fun A => va_Qv (TQv Q) (CB D dA ad A) A) (by decide +kernel) (Nat.le_of_ble_eq_true rfl) ?_
  intro p e s m args below meth c A ls X hP hl hnm
  have hl : LH ad ls 2 [(0, pX 200), (1, iX a1)] := hl
  refine ph_aload_n (n := 0) X hl dX8_mark_0 rfl rfl ?_
  refine tw_geti 21 X hP q1791 dX8_mark_1 ?_
  refine lv_if_ne (tgt := 20) X.1 X.2.1 dX8_mark_4 (by decide) (fun c9 => ?_) (fun c9 => ?_)
  · have hF := hF.1 c9
    exact w_X8_mark_20 X _ _ _ _ hF hP (lh_sub hl [0] rfl)
  · have hF := hF.2 c9
    refine ph_aload_n (n := 0) X hl dX8_mark_7 rfl rfl ?_
    refine ph_iload_n (n := 1) X hl dX8_mark_8 rfl rfl ?_
    refine tw_callVi [iX a1] X hP (met_X8_isMarked l D dA ad _ _ hF) (cwV 1 X.2.2.2.2.1 (lw_V q2060 q2062 qs54 q126 q2063) rfl rfl rfl (by decide +kernel) ⟨Nat.le_of_ble_eq_true rfl, Nat.le_of_ble_eq_true rfl⟩) rfl hl (k8 := 0) (cs0 (k := 0)) (by decide) ⟨Nat.le_refl _, Nat.le_refl _⟩ dX8_mark_9 rfl (fun r5 σ4 H locs hF hP => ?_)
    refine lv_if_ne (tgt := 20) X.1 X.2.1 dX8_mark_12 (by decide) (fun c8 => ?_) (fun c8 => ?_)
    · have hF := hF.1 c8
      exact w_X8_mark_20 X _ _ _ _ hF hP (lh_sub hl [0] rfl)
    · have hF := hF.2 c8
      refine ph_aload_n (n := 0) X hl dX8_mark_15 rfl rfl ?_
      refine lv_iconst (v := 1) X.1 X.2.1 dX8_mark_16 (by decide) ?_
      refine tw_callVv [iX 1] X hP (met_X8_wrong l D dA ad _ _ hF) (cwV 1 X.2.2.2.2.1 (lw_V q2044 q2046 qs50 q126 q2047) rfl rfl rfl (by decide +kernel) ⟨Nat.le_of_ble_eq_true rfl, Nat.le_of_ble_eq_true rfl⟩) rfl hl (k8 := 0) (cs0 (k := 0)) (by decide) ⟨Nat.le_refl _, Nat.le_refl _⟩ dX8_mark_17 rfl (fun σ6 H locs hF hP => ?_)
      exact w_X8_mark_20 X _ _ _ _ hF hP (lh_sub hl [0] rfl)
end TWA
