set_option maxRecDepth 100000
section HGA
variable {p : Program} {l : Launch} {e : Env} {s : State} {m : MethodId} {args : Array Value} {below : List Frame} {meth : Method} {c : Code} {D : va_G} {dA : Nat → ClassId} {ad0 : Nat → Nat} {A : Nat → Prop} {g0 : GT}
def P_X9_part_94 (rs : (Nat → Nat → (Nat → Nat → GT → S → Prop) → Nat → Int32 → GT → S → (Nat → GT → S → Prop) → Prop)) (BC BS : Nat) (Xq : Nat → Nat → GT → S → Prop) (Q : Nat → GT → S → Prop) (y0 : Nat) (y1 : Int32) (x0 : Nat) (x2 : Nat) (g : GT) (ι : S) (uc us : Nat) : Prop := (x2 < 200 + gN g ∧ (x0 < 200 + gN g ∧ (∃ b3 d4, ((uc + b3 ≤ BC ∧ us + d4 ≤ BS) ∧ (gK g y0 = 8 ∧ (P_X9_check b3 d4 Xq y0 y1 3 g ι (fun g6 ι7 => (∃ b11 d12, ((uc + b3 + b11 ≤ BC ∧ us + d4 + d12 ≤ BS) ∧ (gK g6 x0 = 8 ∧ (P_X9_go b11 d12 x0 g6 ι7 (fun g14 ι15 => ((uc + b3 + b11 + 1 ≤ BC ∧ us + d4 + d12 + 1 ≤ BS) ∧ (∀ g20 ι21, g20 = newg g14 11 0 → ι21 = newi g14 ι15 → ((uc + b3 + b11 + 1 ≤ BC ∧ us + d4 + d12 + 1 ≤ BS) ∧ (P_X13_init 0 0 (200 + gN g14) x2 g20 ι21 (fun g25 ι26 => (Q (200 + gN g14) g25 ι26))))))))))))))))))
def P_X9_part_72 (rs : (Nat → Nat → (Nat → Nat → GT → S → Prop) → Nat → Int32 → GT → S → (Nat → GT → S → Prop) → Prop)) (BC BS : Nat) (Xq : Nat → Nat → GT → S → Prop) (Q : Nat → GT → S → Prop) (y0 : Nat) (y1 : Int32) (x0 : Nat) (g : GT) (ι : S) (uc us : Nat) : Prop := (x0 < 200 + gN g ∧ (∃ b33 d34, ((uc + b33 ≤ BC ∧ us + d34 ≤ BS) ∧ (gK g y0 = 8 ∧ (P_X9_check b33 d34 Xq y0 y1 1 g ι (fun g36 ι37 => (gK g36 x0 = 8 ∧ ((uc + b33 ≤ BC ∧ us + d34 ≤ BS) ∧ (P_X9_valueOf 0 0 (gR g36 x0 7) g36 ι37 (fun r47 g44 ι45 => ((r47 = 0 → (P_X9_part_94 rs BC BS Xq Q x0 0 x0 r47 g44 ι45 (uc + b33) (us + d34))) ∧ (¬ r47 = 0 → (P_X9_part_94 rs BC BS Xq Q x0 1 x0 r47 g44 ι45 (uc + b33) (us + d34))))))))))))))
def P_X9_part (rs : (Nat → Nat → (Nat → Nat → GT → S → Prop) → Nat → Int32 → GT → S → (Nat → GT → S → Prop) → Prop)) (BC BS : Nat) (Xq : Nat → Nat → GT → S → Prop) (a0 : Nat) (a1 : Int32) (g : GT) (ι : S) (Q : Nat → GT → S → Prop) : Prop := (gK g a0 = 8 ∧ ((100 ≤ (gR g a0 6) ∧ (gR g a0 6) < 105) ∧ ((¬ (gR g a0 6) = 101 → (P_X9_is g a0 23 ι (fun r55 ι56 => ((r55 = 0 → ((¬ (gR g a0 6) = 100 → (P_X9_part_72 rs BC BS Xq Q a0 0 a0 g ι56 (0) (0))) ∧ ((gR g a0 6) = 100 → (P_X9_part_72 rs BC BS Xq Q a0 1 a0 g ι56 (0) (0))))) ∧ (¬ r55 = 0 → (a0 < 200 + gN g ∧ (∃ b61 d62, ((0 + b61 ≤ BC ∧ 0 + d62 ≤ BS) ∧ (P_X9_go b61 d62 a0 g ι56 (fun g64 ι65 => (∃ b69 d70, ((0 + b61 + b69 ≤ BC ∧ 0 + d62 + d70 ≤ BS) ∧ (gK g64 a0 = 8 ∧ (rs b69 d70 Xq a0 (a1 + 1) g64 ι65 (fun r75 g72 ι73 => (∃ b77 d78, ((0 + b61 + b69 + b77 ≤ BC ∧ 0 + d62 + d70 + d78 ≤ BS) ∧ (gK g72 a0 = 8 ∧ (P_X9_need b77 d78 Xq a0 43 g72 ι73 (fun g80 ι81 => (Q r75 g80 ι81))))))))))))))))))))) ∧ ((gR g a0 6) = 101 → (a0 < 200 + gN g ∧ ((1 ≤ BC ∧ 1 ≤ BS) ∧ (∀ g90 ι91, g90 = newg g 10 0 → ι91 = newi g ι → (∃ b94 d95, ((1 + b94 ≤ BC ∧ 1 + d95 ≤ BS) ∧ (P_X9_number b94 d95 Xq a0 0 9999 g90 ι91 (fun r100 g97 ι98 => ((1 + b94 ≤ BC ∧ 1 + d95 ≤ BS) ∧ (gK g97 (200 + gN g) = 10 ∧ (P_X12_init 0 0 (200 + gN g) r100 g97 ι98 (fun g103 ι104 => (Q (200 + gN g) g103 ι104))))))))))))))))
set_option maxHeartbeats 2000000 in
theorem w_X9_part_94 {rs : (Nat → Nat → (Nat → Nat → GT → S → Prop) → Nat → Int32 → GT → S → (Nat → GT → S → Prop) → Prop)} {F L : Nat} (hrec : ∀ (BC BS : Nat) (ad : Nat → Nat) (g : GT) (ι : S) (sz : Nat) (a0 : Nat) (a1 : Int32) (Xq : Nat → Nat → GT → S → Prop) (Q : Nat → GT → S → Prop), rs BC BS Xq a0 a1 g ι Q → CYq l yX9_expr cX9_expr 3 (.object "SpoonRow$Expr") ({ frames := F, cells := BC, slots := BS, locals := L } : Room) D dA ad g ι sz [pX a0, iX a1] Q Xq BC BS) (hlt : l.stackTraces = false) (hex : ∀ x ∈ c.exceptionTable.toList, False) {Xq : Nat → Nat → GT → S → Prop} {BC BS : Nat} {Q : Nat → GT → S → Prop} : ∀ (y0 : Nat) (y1 : Int32) (x0 : Nat) (x2 : Nat) (g : GT) (ι : S) (uc us : Nat) (ad : Nat → Nat) (H : Heap) (locs : List Loc) (ls : Array Slot), P_X9_part_94 rs BC BS Xq Q y0 y1 x0 x2 g ι uc us → CX p s m args c meth cX9_part 3 (some (.object "SpoonRow$Expr")) RX9 D dA ad A → PW D dA A s.heap ad (HS g ι) H locs → HA ad0 g0 ad g → LH ad ls 3 [(0, pX x0), (2, pX x2)] → WYq p l e ({ frames := F + 13, cells := BC, slots := BS, locals := L + 287 } : Room) s m args below meth c D dA ad0 g0 A Q Xq BC BS H locs (uc) (us) (F0 m 94 ls [.int y1, rv ad y0]) := by
  intro y0 y1 x0 x2 g ι uc us ad H locs ls hF X hP hag hl
  unfold P_X9_part_94 at hF
  refine lv_iconst (v := 3) X.1 X.2.1 dX9_part_94 (by decide) ?_
  obtain ⟨hx1, hF⟩ := hF
  obtain ⟨hx2, hF⟩ := hF
  obtain ⟨b3, d4, hF⟩ := hF
  obtain ⟨hd5, hF⟩ := hF
  obtain ⟨hm31, hF⟩ := hF
  refine hy_callVv 7 [iX y1, iX 3] [] X hP hex hm31 (met_X9_check l D dA ad _ _ hlt _ _ _ hF) (cwV 2 X.2.2.2.2.1 (lw_V q1300 q1302 qs27 q127 q1303) rfl rfl rfl (by decide +kernel) (by constructor <;> (dsimp only) <;> omega)) rfl hag hl (ltlp hx2 (ltlp hx1 ltln)) ltsn (k8 := 0) (cs0 (k := 0)) (by decide) hd5 hd5.1 hd5.2 dX9_part_95 rfl (fun ad g6 ι7 H locs hF X hP hag he8 hl => ?_)
  show WYq p l e ({ frames := F + 13, cells := BC, slots := BS, locals := L + 287 } : Room) s m args below meth c D dA ad0 g0 A Q Xq BC BS H locs (uc + b3) (us + d4) (F0 m 98 ls [])
  refine ph_aload_n (n := 0) X hl dX9_part_98 rfl rfl ?_
  obtain ⟨b11, d12, hF⟩ := hF
  obtain ⟨hd13, hF⟩ := hF
  obtain ⟨hm30, hF⟩ := hF
  have hl : LH ad ls 3 [(2, pX x2)] := lh_sub hl [1] rfl
  refine hg_callVv 7 [] [] X hP hm30 (met_X9_go l D dA ad _ _ _ _ _ hF) (cwV 0 X.2.2.2.2.1 (lw_V q1182 q1184 qs23 q127 q1185) rfl rfl rfl (by decide +kernel) (by constructor <;> (dsimp only) <;> omega)) rfl hag hl (ltlp (ltm hx1 he8) ltln) ltsn (k8 := 0) (cs0 (k := 0)) (by decide) hd13 dX9_part_99 rfl (fun ad g14 ι15 H locs hF X hP hag he16 hl => ?_)
  show WYq p l e ({ frames := F + 13, cells := BC, slots := BS, locals := L + 287 } : Room) s m args below meth c D dA ad0 g0 A Q Xq BC BS H locs (uc + b3 + b11) (us + d4 + d12) (F0 m 102 ls [])
  obtain ⟨hd19, hF⟩ := hF
  refine hg_new 10 [] X hP hag hl (ltlp (ltm (ltm hx1 he8) he16) ltln) ltsn in_X13 tyX13 tyX13_ok (by decide +kernel) q1395 q1396 q132 hd19 dX9_part_102 rfl hF (fun H ad g20 ι21 X hP hag he22 hk23 hl hF => ?_)
  show WYq p l e ({ frames := F + 13, cells := BC, slots := BS, locals := L + 287 } : Room) s m args below meth c D dA ad0 g0 A Q Xq BC BS H locs (uc + b3 + b11 + 1) (us + d4 + d12 + 1) (F0 m 105 ls [rv ad (200 + gN g14)])
  refine ph_dup_r X dX9_part_105 ?_
  refine ph_aload_n (n := 0) X hl dX9_part_106 rfl rfl ?_
  obtain ⟨hd24, hF⟩ := hF
  have hl : LH ad ls 3 [] := lh_sub hl [] rfl
  refine hg_callI [pX x2] [pX (200 + gN g14)] X hP (cg_nz hP hk23.1 (by decide)) (met_X13_init l D dA ad _ _ _ _ _ hF) (cwI 1 X.2.2.2.2.1 (lw_meth q1399) rfl rfl rfl (X.2.2.2.2.1 _ q132) (X.2.2.2.2.1 _ q1397) (X.2.2.2.2.1 _ q1398) rfl (by decide +kernel) (by constructor <;> (dsimp only) <;> omega)) rfl hag hl ltln (ltsp (ltw he22) ltsn) (k8 := 1) (csr (cs0 (k := 0))) (by decide) hd24 dX9_part_107 rfl (fun ad g25 ι26 H locs hF X hP hag he27 hl => ?_)
  show WYq p l e ({ frames := F + 13, cells := BC, slots := BS, locals := L + 287 } : Room) s m args below meth c D dA ad0 g0 A Q Xq BC BS H locs (uc + b3 + b11 + 1) (us + d4 + d12 + 1) (F0 m 110 ls [rv ad (200 + gN g14)])
  exact hy_aret X hP hag (Or.inl ⟨_, rfl⟩) (ltm (ltw he22) he27) hF hd24.1 hd24.2 dX9_part_110
set_option maxHeartbeats 2000000 in
theorem w_X9_part_72 {rs : (Nat → Nat → (Nat → Nat → GT → S → Prop) → Nat → Int32 → GT → S → (Nat → GT → S → Prop) → Prop)} {F L : Nat} (hrec : ∀ (BC BS : Nat) (ad : Nat → Nat) (g : GT) (ι : S) (sz : Nat) (a0 : Nat) (a1 : Int32) (Xq : Nat → Nat → GT → S → Prop) (Q : Nat → GT → S → Prop), rs BC BS Xq a0 a1 g ι Q → CYq l yX9_expr cX9_expr 3 (.object "SpoonRow$Expr") ({ frames := F, cells := BC, slots := BS, locals := L } : Room) D dA ad g ι sz [pX a0, iX a1] Q Xq BC BS) (hlt : l.stackTraces = false) (hex : ∀ x ∈ c.exceptionTable.toList, False) {Xq : Nat → Nat → GT → S → Prop} {BC BS : Nat} {Q : Nat → GT → S → Prop} : ∀ (y0 : Nat) (y1 : Int32) (x0 : Nat) (g : GT) (ι : S) (uc us : Nat) (ad : Nat → Nat) (H : Heap) (locs : List Loc) (ls : Array Slot), P_X9_part_72 rs BC BS Xq Q y0 y1 x0 g ι uc us → CX p s m args c meth cX9_part 3 (some (.object "SpoonRow$Expr")) RX9 D dA ad A → PW D dA A s.heap ad (HS g ι) H locs → HA ad0 g0 ad g → LH ad ls 3 [(0, pX x0)] → WYq p l e ({ frames := F + 13, cells := BC, slots := BS, locals := L + 287 } : Room) s m args below meth c D dA ad0 g0 A Q Xq BC BS H locs (uc) (us) (F0 m 72 ls [.int y1, rv ad y0]) := by
  intro y0 y1 x0 g ι uc us ad H locs ls hF X hP hag hl
  unfold P_X9_part_72 at hF
  refine lv_iconst (v := 1) X.1 X.2.1 dX9_part_72 (by decide) ?_
  obtain ⟨hx32, hF⟩ := hF
  obtain ⟨b33, d34, hF⟩ := hF
  obtain ⟨hd35, hF⟩ := hF
  obtain ⟨hm50, hF⟩ := hF
  refine hy_callVv 7 [iX y1, iX 1] [] X hP hex hm50 (met_X9_check l D dA ad _ _ hlt _ _ _ hF) (cwV 2 X.2.2.2.2.1 (lw_V q1300 q1302 qs27 q127 q1303) rfl rfl rfl (by decide +kernel) (by constructor <;> (dsimp only) <;> omega)) rfl hag hl (ltlp hx32 ltln) ltsn (k8 := 0) (cs0 (k := 0)) (by decide) hd35 hd35.1 hd35.2 dX9_part_73 rfl (fun ad g36 ι37 H locs hF X hP hag he38 hl => ?_)
  show WYq p l e ({ frames := F + 13, cells := BC, slots := BS, locals := L + 287 } : Room) s m args below meth c D dA ad0 g0 A Q Xq BC BS H locs (uc + b33) (us + d34) (F0 m 76 ls [])
  refine ph_aload_n (n := 0) X hl dX9_part_76 rfl rfl ?_
  obtain ⟨hm41, hF⟩ := hF
  have hv42 := gR_lt hP x0 7
  refine cg_getr 7 7 X in_X9 hP hm41 q1256 dX9_part_77 ?_
  obtain ⟨hd43, hF⟩ := hF
  refine hg_callSq [pX (gR g36 x0 7)] [] X hP (met_X9_valueOf l D dA ad _ _ _ _ _ hF) (va_cwS 1 X.2.2.2.2.1 (lw_S q1378 q1379 q127 q1380) rfl rfl rfl (by decide +kernel) (by constructor <;> (dsimp only) <;> omega)) rfl hag hl (ltlp (ltm hx32 he38) ltln) ltsn (k8 := 0) (cs0 (k := 0)) (by decide) hd43 dX9_part_80 rfl (fun r47 ad g44 ι45 H locs hF hv48 X hP hag he46 hl => ?_)
  show WYq p l e ({ frames := F + 13, cells := BC, slots := BS, locals := L + 287 } : Room) s m args below meth c D dA ad0 g0 A Q Xq BC BS H locs (uc + b33) (us + d34) (F0 m 83 ls [rv ad r47])
  refine ph_astore_n X hl dX9_part_83 rfl (by decide) rfl (fun ls hl => ?_)
  refine ph_aload_n (n := 1) X hl dX9_part_84 rfl rfl ?_
  refine ph_aload_n (n := 0) X hl dX9_part_85 rfl rfl ?_
  refine cg_ifnull (tgt := 93) X dX9_part_86 (by decide) (fun c49 => ?_) (fun c49 => ?_)
  · have hF := hF.1 c49
    refine lv_iconst (v := 0) X.1 X.2.1 dX9_part_93 (by decide) ?_
    exact w_X9_part_94 hrec hlt hex _ _ _ _ _ _ _ _ _ _ _ _ hF X hP hag (lh_sub hl [1, 0] rfl)
  · have hF := hF.2 c49
    refine lv_iconst (v := 1) X.1 X.2.1 dX9_part_89 (by decide) ?_
    refine lv_goto (tgt := 94) X.1 X.2.1 dX9_part_90 (by decide) ?_
    exact w_X9_part_94 hrec hlt hex _ _ _ _ _ _ _ _ _ _ _ _ hF X hP hag (lh_sub hl [1, 0] rfl)
set_option maxHeartbeats 2000000 in
theorem we_X9_part {rs : (Nat → Nat → (Nat → Nat → GT → S → Prop) → Nat → Int32 → GT → S → (Nat → GT → S → Prop) → Prop)} {F L : Nat} (hrec : ∀ (BC BS : Nat) (ad : Nat → Nat) (g : GT) (ι : S) (sz : Nat) (a0 : Nat) (a1 : Int32) (Xq : Nat → Nat → GT → S → Prop) (Q : Nat → GT → S → Prop), rs BC BS Xq a0 a1 g ι Q → CYq l yX9_expr cX9_expr 3 (.object "SpoonRow$Expr") ({ frames := F, cells := BC, slots := BS, locals := L } : Room) D dA ad g ι sz [pX a0, iX a1] Q Xq BC BS) (hlt : l.stackTraces = false) (hex : ∀ x ∈ c.exceptionTable.toList, False) {Xq : Nat → Nat → GT → S → Prop} {BC BS : Nat} {Q : Nat → GT → S → Prop} : ∀ (a0 : Nat) (a1 : Int32) (g : GT) (ι : S) (ad : Nat → Nat) (H : Heap) (locs : List Loc) (ls : Array Slot), P_X9_part rs BC BS Xq a0 a1 g ι Q → CX p s m args c meth cX9_part 3 (some (.object "SpoonRow$Expr")) RX9 D dA ad A → PW D dA A s.heap ad (HS g ι) H locs → HA ad0 g0 ad g → LH ad ls 3 [(0, pX a0), (1, iX a1)] → WYq p l e ({ frames := F + 13, cells := BC, slots := BS, locals := L + 287 } : Room) s m args below meth c D dA ad0 g0 A Q Xq BC BS H locs (0) (0) (F0 m 0 ls []) := by
  intro a0 a1 g ι ad H locs ls hF X hP hag hl
  unfold P_X9_part at hF
  refine ph_aload_n (n := 0) X hl dX9_part_0 rfl rfl ?_
  obtain ⟨hm51, hF⟩ := hF
  have hv52 := gR_lt hP a0 6
  refine cg_getr 7 6 X in_X9 hP hm51 q1255 dX9_part_1 ?_
  refine cg_getsS (k := 1) X hP (by decide) rfl q1226 dX9_part_4 ?_
  obtain ⟨hm53, hF⟩ := hF
  refine cg_acmp_ne (tgt := 26) X (by have := hm53; omega) (by have := (show 100 ≤ 101 ∧ 101 < 105 by decide); omega) (sort_inj X hm53 (show 100 ≤ 101 ∧ 101 < 105 by decide)) dX9_part_7 (by decide) (fun c54 => ?_) (fun c54 => ?_)
  · have hF := hF.1 c54
    refine ph_aload_n (n := 0) X hl dX9_part_26 rfl rfl ?_
    refine ph_ldcS (i := 11) (tx := "(") X (List.mem_of_getElem? (i := 25) rfl) dX9_part_27 ?_
    refine cg_callVi 7 [pX 23] X hP hm51 (met_X9_is l D dA ad g _ _ hF) (cwV 1 X.2.2.2.2.1 (lw_V q1289 q1291 qs26 q127 q1292) rfl rfl rfl (by decide +kernel) (by constructor <;> (dsimp only) <;> omega)) rfl hl (k8 := 0) (cs0 (k := 0)) (by decide) ⟨Nat.zero_le _, Nat.zero_le _⟩ dX9_part_29 rfl (fun r55 ι56 H locs hF hP => ?_)
    refine lv_if_eq (tgt := 56) X.1 X.2.1 dX9_part_32 (by decide) (fun c87 => ?_) (fun c87 => ?_)
    · have hF := hF.1 c87
      refine ph_aload_n (n := 0) X hl dX9_part_56 rfl rfl ?_
      refine ph_aload_n (n := 0) X hl dX9_part_57 rfl rfl ?_
      have hv58 := gR_lt hP a0 6
      refine cg_getr 7 6 X in_X9 hP hm51 q1255 dX9_part_58 ?_
      refine cg_getsS (k := 0) X hP (by decide) rfl q1221 dX9_part_61 ?_
      refine cg_acmp_ne (tgt := 71) X (by have := hm53; omega) (by have := (show 100 ≤ 100 ∧ 100 < 105 by decide); omega) (sort_inj X hm53 (show 100 ≤ 100 ∧ 100 < 105 by decide)) dX9_part_64 (by decide) (fun c59 => ?_) (fun c59 => ?_)
      · have hF := hF.1 c59
        refine lv_iconst (v := 0) X.1 X.2.1 dX9_part_71 (by decide) ?_
        exact w_X9_part_72 hrec hlt hex _ _ _ _ _ _ _ _ _ _ _ hF X hP hag (lh_sub hl [0] rfl)
      · have hF := hF.2 c59
        refine lv_iconst (v := 1) X.1 X.2.1 dX9_part_67 (by decide) ?_
        refine lv_goto (tgt := 72) X.1 X.2.1 dX9_part_68 (by decide) ?_
        exact w_X9_part_72 hrec hlt hex _ _ _ _ _ _ _ _ _ _ _ hF X hP hag (lh_sub hl [0] rfl)
    · have hF := hF.2 c87
      refine ph_aload_n (n := 0) X hl dX9_part_35 rfl rfl ?_
      obtain ⟨hx60, hF⟩ := hF
      obtain ⟨b61, d62, hF⟩ := hF
      obtain ⟨hd63, hF⟩ := hF
      refine hg_callVv 7 [] [] X hP hm51 (met_X9_go l D dA ad _ _ _ _ _ hF) (cwV 0 X.2.2.2.2.1 (lw_V q1182 q1184 qs23 q127 q1185) rfl rfl rfl (by decide +kernel) (by constructor <;> (dsimp only) <;> omega)) rfl hag hl (ltlp hx60 (ltli ltln)) ltsn (k8 := 0) (cs0 (k := 0)) (by decide) hd63 dX9_part_36 rfl (fun ad g64 ι65 H locs hF X hP hag he66 hl => ?_)
      show WYq p l e ({ frames := F + 13, cells := BC, slots := BS, locals := L + 287 } : Room) s m args below meth c D dA ad0 g0 A Q Xq BC BS H locs (0 + b61) (0 + d62) (F0 m 39 ls [])
      refine ph_aload_n (n := 0) X hl dX9_part_39 rfl rfl ?_
      refine ph_iload_n (n := 1) X hl dX9_part_40 rfl rfl ?_
      refine lv_iconst (v := 1) X.1 X.2.1 dX9_part_41 (by decide) ?_
      refine lv_iadd X.1 X.2.1 dX9_part_42 ?_
      obtain ⟨b69, d70, hF⟩ := hF
      obtain ⟨hd71, hF⟩ := hF
      obtain ⟨hm86, hF⟩ := hF
      have hl : LH ad ls 3 [(0, pX a0)] := lh_sub hl [0] rfl
      refine hy_callVq 7 [iX (a1 + 1)] [] X hP hex hm86 (hrec _ _ _ _ _ _ _ _ _ _ hF) (cwV 1 X.2.2.2.2.1 (lw_V q1334 q1336 qs29 q127 q1337) rfl rfl rfl (by decide +kernel) (by constructor <;> (dsimp only) <;> omega)) rfl hag hl (ltlp (ltm hx60 he66) ltln) ltsn (k8 := 0) (cs0 (k := 0)) (by decide) hd71 hd71.1 hd71.2 dX9_part_43 rfl (fun r75 ad g72 ι73 H locs hF hv76 X hP hag he74 hl => ?_)
      show WYq p l e ({ frames := F + 13, cells := BC, slots := BS, locals := L + 287 } : Room) s m args below meth c D dA ad0 g0 A Q Xq BC BS H locs (0 + b61 + b69) (0 + d62 + d70) (F0 m 46 ls [rv ad r75])
      refine ph_astore_n X hl dX9_part_46 rfl (by decide) rfl (fun ls hl => ?_)
      refine ph_aload_n (n := 1) X hl dX9_part_47 rfl rfl ?_
      refine ph_ldcSw (i := 21) (tx := ")") X (List.mem_of_getElem? (i := 27) rfl) dX9_part_48 ?_
      obtain ⟨b77, d78, hF⟩ := hF
      obtain ⟨hd79, hF⟩ := hF
      obtain ⟨hm85, hF⟩ := hF
      have hl : LH ad ls 3 [(2, pX r75)] := lh_sub hl [0] rfl
      refine hy_callVv 7 [pX 43] [] X hP hex hm85 (met_X9_need l D dA ad _ _ hlt _ _ _ hF) (cwV 1 X.2.2.2.2.1 (lw_V q1374 q1376 qs35 q127 q1377) rfl rfl rfl (by decide +kernel) (by constructor <;> (dsimp only) <;> omega)) rfl hag hl (ltlp hv76 ltln) ltsn (k8 := 0) (cs0 (k := 0)) (by decide) hd79 hd79.1 hd79.2 dX9_part_51 rfl (fun ad g80 ι81 H locs hF X hP hag he82 hl => ?_)
      show WYq p l e ({ frames := F + 13, cells := BC, slots := BS, locals := L + 287 } : Room) s m args below meth c D dA ad0 g0 A Q Xq BC BS H locs (0 + b61 + b69 + b77) (0 + d62 + d70 + d78) (F0 m 54 ls [])
      refine ph_aload_n (n := 0) X hl dX9_part_54 rfl rfl ?_
      exact hy_aret X hP hag (Or.inl ⟨_, rfl⟩) (ltm hv76 he82) hF hd79.1 hd79.2 dX9_part_55
  · have hF := hF.2 c54
    obtain ⟨hx88, hF⟩ := hF
    obtain ⟨hd89, hF⟩ := hF
    have hl : LH ad ls 3 [(0, pX a0)] := lh_sub hl [0] rfl
    refine hg_new 9 [] X hP hag hl (ltlp hx88 ltln) ltsn in_X12 tyX12 tyX12_ok (by decide +kernel) q1360 q1361 q131 hd89 dX9_part_10 rfl hF (fun H ad g90 ι91 X hP hag he92 hk93 hl hF => ?_)
    show WYq p l e ({ frames := F + 13, cells := BC, slots := BS, locals := L + 287 } : Room) s m args below meth c D dA ad0 g0 A Q Xq BC BS H locs (1) (1) (F0 m 13 ls [rv ad (200 + gN g)])
    refine ph_dup_r X dX9_part_13 ?_
    refine ph_aload_n (n := 0) X hl dX9_part_14 rfl rfl ?_
    refine lv_iconst (v := 0) X.1 X.2.1 dX9_part_15 (by decide) ?_
    refine lv_sipush (v := 9999) X.1 X.2.1 dX9_part_16 (by decide) ?_
    obtain ⟨b94, d95, hF⟩ := hF
    obtain ⟨hd96, hF⟩ := hF
    have hl : LH ad ls 3 [] := lh_sub hl [] rfl
    refine hy_callVi 7 [iX 0, iX 9999] [pX (200 + gN g), pX (200 + gN g)] X hP hex (by rw [hk93.2 _ hx88]; exact hm51) (met_X9_number l D dA ad _ _ hlt _ _ _ hF) (cwV 2 X.2.2.2.2.1 (lw_V q1327 q1329 qs28 q127 q1330) rfl rfl rfl (by decide +kernel) (by constructor <;> (dsimp only) <;> omega)) rfl hag hl ltln (ltsp (ltw he92) (ltsp (ltw he92) ltsn)) (k8 := 2) (csr (csr (cs0 (k := 0)))) (by decide) hd96 hd96.1 hd96.2 dX9_part_19 rfl (fun r100 ad g97 ι98 H locs hF X hP hag he99 hl => ?_)
    show WYq p l e ({ frames := F + 13, cells := BC, slots := BS, locals := L + 287 } : Room) s m args below meth c D dA ad0 g0 A Q Xq BC BS H locs (1 + b94) (1 + d95) (F0 m 22 ls [.int r100, rv ad (200 + gN g), rv ad (200 + gN g)])
    obtain ⟨hd102, hF⟩ := hF
    obtain ⟨hm108, hF⟩ := hF
    refine hg_callI [iX r100] [pX (200 + gN g)] X hP (cg_nz hP hm108 (by decide)) (met_X12_init l D dA ad _ _ _ _ _ hF) (cwI 1 X.2.2.2.2.1 (lw_meth q1364) rfl rfl rfl (X.2.2.2.2.1 _ q131) (X.2.2.2.2.1 _ q1362) (X.2.2.2.2.1 _ q1363) rfl (by decide +kernel) (by constructor <;> (dsimp only) <;> omega)) rfl hag hl ltln (ltsp (ltm (ltw he92) he99) ltsn) (k8 := 1) (csr (cs0 (k := 0))) (by decide) hd102 dX9_part_22 rfl (fun ad g103 ι104 H locs hF X hP hag he105 hl => ?_)
    show WYq p l e ({ frames := F + 13, cells := BC, slots := BS, locals := L + 287 } : Room) s m args below meth c D dA ad0 g0 A Q Xq BC BS H locs (1 + b94) (1 + d95) (F0 m 25 ls [rv ad (200 + gN g)])
    exact hy_aret X hP hag (Or.inl ⟨_, rfl⟩) (ltm (ltm (ltw he92) he99) he105) hF hd102.1 hd102.2 dX9_part_25
set_option maxHeartbeats 2000000 in
theorem met_X9_part {rs : (Nat → Nat → (Nat → Nat → GT → S → Prop) → Nat → Int32 → GT → S → (Nat → GT → S → Prop) → Prop)} {F L : Nat} (l : Launch) (D : va_G) (dA : Nat → ClassId) (ad : Nat → Nat) (BC BS : Nat) (hrec : ∀ (BC BS : Nat) (ad : Nat → Nat) (g : GT) (ι : S) (sz : Nat) (a0 : Nat) (a1 : Int32) (Xq : Nat → Nat → GT → S → Prop) (Q : Nat → GT → S → Prop), rs BC BS Xq a0 a1 g ι Q → CYq l yX9_expr cX9_expr 3 (.object "SpoonRow$Expr") ({ frames := F, cells := BC, slots := BS, locals := L } : Room) D dA ad g ι sz [pX a0, iX a1] Q Xq BC BS) (hlt : l.stackTraces = false) {Xq : Nat → Nat → GT → S → Prop} (g : GT) (ι : S) (sz : Nat) {a0 : Nat} {a1 : Int32} {Q : Nat → GT → S → Prop} (hF : P_X9_part rs BC BS Xq a0 a1 g ι Q) : CYq l yX9_part cX9_part 3 (.object "SpoonRow$Expr") ({ frames := F + 13, cells := BC, slots := BS, locals := L + 287 } : Room) D dA ad g ι sz [pX a0, iX a1] Q Xq BC BS := by
  refine yg_enter [pX a0, iX a1] (Qc := fun A => HPq D dA ad g A Q) (XC := fun A => XHC D dA ad g A Xq) (by decide +kernel) (Nat.le_of_ble_eq_true rfl) ?_
  intro p e s m args below meth c A ls X hP hl hex
  exact we_X9_part hrec hlt hex _ _ _ _ _ _ _ _ hF X hP HA.rf hl
def P_X9_product_26 (rs : (Nat → Nat → (Nat → Nat → GT → S → Prop) → Nat → Int32 → GT → S → (Nat → GT → S → Prop) → Prop)) (BC BS : Nat) (Xq : Nat → Nat → GT → S → Prop) (Q : Nat → GT → S → Prop) (k6 : Nat → Int32 → Nat → GT → S → Nat → Nat → Prop) (x0 : Nat) (x1 : Int32) (x2 : Nat) (g : GT) (ι : S) (uc us : Nat) : Prop := (gK g x0 = 8 ∧ ((uc ≤ BC ∧ us ≤ BS) ∧ (isStrP g (gR g x0 7) ∧ (P_J9_charAt g (gR g x0 7) 0 ι (fun r4 ι5 => (x2 < 200 + gN g ∧ (x0 < 200 + gN g ∧ (∃ b9 d10, ((uc + b9 ≤ BC ∧ us + d10 ≤ BS) ∧ (P_X9_go b9 d10 x0 g ι5 (fun g12 ι13 => ((uc + b9 + 1 ≤ BC ∧ us + d10 + 3 ≤ BS) ∧ (∀ g18 ι19, g18 = newg g12 12 0 → ι19 = newi g12 ι13 → (∃ b22 d23, ((uc + b9 + 1 + b22 ≤ BC ∧ us + d10 + 3 + d23 ≤ BS) ∧ (gK g18 x0 = 8 ∧ (P_X9_part rs b22 d23 Xq x0 x1 g18 ι19 (fun r28 g25 ι26 => ((uc + b9 + 1 + b22 ≤ BC ∧ us + d10 + 3 + d23 ≤ BS) ∧ (gK g25 (200 + gN g12) = 12 ∧ (P_X14_init 0 0 (200 + gN g12) r4 x2 r28 g25 ι26 (fun g31 ι32 => (k6 x0 x1 (200 + gN g12) g31 ι32 (uc + b9 + 1 + b22) (us + d10 + 3 + d23))))))))))))))))))))))))
def P_X9_product_6 (rs : (Nat → Nat → (Nat → Nat → GT → S → Prop) → Nat → Int32 → GT → S → (Nat → GT → S → Prop) → Prop)) (BC BS : Nat) (Xq : Nat → Nat → GT → S → Prop) (Q : Nat → GT → S → Prop) : Nat → Nat → Int32 → Nat → GT → S → Nat → Nat → Prop
  | 0, _, _, _, _, _, _, _ => False
  | n + 1, x0, x1, x2, g, ι, uc, us => ((uc ≤ BC ∧ us ≤ BS) ∧ (gK g x0 = 8 ∧ (P_X9_is g x0 39 ι (fun r39 ι40 => ((¬ r39 = 0 → (P_X9_product_26 rs BC BS Xq Q (fun z0 z1 z2 z3 z4 z5 z6 => P_X9_product_6 rs BC BS Xq Q  n z0 z1 z2 z3 z4 z5 z6) x0 x1 x2 g ι40 (uc) (us))) ∧ (r39 = 0 → (P_X9_is g x0 41 ι40 (fun r43 ι44 => ((r43 = 0 → (x2 < 200 + gN g ∧ (Q x2 g ι44))) ∧ (¬ r43 = 0 → (P_X9_product_26 rs BC BS Xq Q (fun z0 z1 z2 z3 z4 z5 z6 => P_X9_product_6 rs BC BS Xq Q  n z0 z1 z2 z3 z4 z5 z6) x0 x1 x2 g ι44 (uc) (us))))))))))))
def P_X9_product (rs : (Nat → Nat → (Nat → Nat → GT → S → Prop) → Nat → Int32 → GT → S → (Nat → GT → S → Prop) → Prop)) (BC BS : Nat) (Xq : Nat → Nat → GT → S → Prop) (a0 : Nat) (a1 : Int32) (g : GT) (ι : S) (Q : Nat → GT → S → Prop) : Prop := (a0 < 200 + gN g ∧ (∃ b50 d51, ((0 + b50 ≤ BC ∧ 0 + d51 ≤ BS) ∧ (gK g a0 = 8 ∧ (P_X9_part rs b50 d51 Xq a0 a1 g ι (fun r56 g53 ι54 => (∃ n9, P_X9_product_6 rs BC BS Xq Q n9 a0 a1 r56 g53 ι54 (0 + b50) (0 + d51))))))))
set_option maxHeartbeats 2000000 in
theorem w_X9_product_26 {rs : (Nat → Nat → (Nat → Nat → GT → S → Prop) → Nat → Int32 → GT → S → (Nat → GT → S → Prop) → Prop)} {F L : Nat} (hrec : ∀ (BC BS : Nat) (ad : Nat → Nat) (g : GT) (ι : S) (sz : Nat) (a0 : Nat) (a1 : Int32) (Xq : Nat → Nat → GT → S → Prop) (Q : Nat → GT → S → Prop), rs BC BS Xq a0 a1 g ι Q → CYq l yX9_expr cX9_expr 3 (.object "SpoonRow$Expr") ({ frames := F, cells := BC, slots := BS, locals := L } : Room) D dA ad g ι sz [pX a0, iX a1] Q Xq BC BS) (hlt : l.stackTraces = false) (hex : ∀ x ∈ c.exceptionTable.toList, False) {Xq : Nat → Nat → GT → S → Prop} {BC BS : Nat} {Q : Nat → GT → S → Prop} {k6 : Nat → Int32 → Nat → GT → S → Nat → Nat → Prop} (hk6 : ∀ (x0 : Nat) (x1 : Int32) (x2 : Nat) (g : GT) (ι : S) (uc us : Nat) (ad : Nat → Nat) (H : Heap) (locs : List Loc) (ls : Array Slot), k6 x0 x1 x2 g ι uc us → CX p s m args c meth cX9_product 4 (some (.object "SpoonRow$Expr")) RX9 D dA ad A → PW D dA A s.heap ad (HS g ι) H locs → HA ad0 g0 ad g → LH ad ls 4 [(0, pX x0), (1, iX x1), (2, pX x2)] → WYq p l e ({ frames := F + 14, cells := BC, slots := BS, locals := L + 327 } : Room) s m args below meth c D dA ad0 g0 A Q Xq BC BS H locs (uc) (us) (F0 m 6 ls [])) : ∀ (x0 : Nat) (x1 : Int32) (x2 : Nat) (g : GT) (ι : S) (uc us : Nat) (ad : Nat → Nat) (H : Heap) (locs : List Loc) (ls : Array Slot), P_X9_product_26 rs BC BS Xq Q k6 x0 x1 x2 g ι uc us → CX p s m args c meth cX9_product 4 (some (.object "SpoonRow$Expr")) RX9 D dA ad A → PW D dA A s.heap ad (HS g ι) H locs → HA ad0 g0 ad g → LH ad ls 4 [(0, pX x0), (1, iX x1), (2, pX x2)] → WYq p l e ({ frames := F + 14, cells := BC, slots := BS, locals := L + 327 } : Room) s m args below meth c D dA ad0 g0 A Q Xq BC BS H locs (uc) (us) (F0 m 26 ls []) := by
  intro x0 x1 x2 g ι uc us ad H locs ls hF X hP hag hl
  unfold P_X9_product_26 at hF
  refine ph_aload_n (n := 0) X hl dX9_product_26 rfl rfl ?_
  obtain ⟨hm1, hF⟩ := hF
  have hv2 := gR_lt hP x0 7
  refine cg_getr 7 7 X in_X9 hP hm1 q1256 dX9_product_27 ?_
  refine lv_iconst (v := 0) X.1 X.2.1 dX9_product_30 (by decide) ?_
  obtain ⟨hd3, hF⟩ := hF
  obtain ⟨hm6, hF⟩ := hF
  refine cg_callRi [iX 0] X hP (str_nz hP hm6) (str_recv X hP hm6) (met_J9_charAt l D dA ad g _ _ hF) (cwV 1 X.2.2.2.2.1 (lw_V q1407 q1408 q1409 q109 q1410) rfl rfl rfl (by decide +kernel) (by constructor <;> (dsimp only) <;> omega)) rfl hl (k8 := 0) (cs0 (k := 0)) (by decide) hd3 dX9_product_31 rfl (fun r4 ι5 H locs hF hP => ?_)
  refine ph_istore_n X hl dX9_product_34 rfl (by decide) rfl (fun ls hl => ?_)
  refine ph_aload_n (n := 1) X hl dX9_product_35 rfl rfl ?_
  obtain ⟨hx7, hF⟩ := hF
  obtain ⟨hx8, hF⟩ := hF
  obtain ⟨b9, d10, hF⟩ := hF
  obtain ⟨hd11, hF⟩ := hF
  refine hg_callVv 7 [] [] X hP hm1 (met_X9_go l D dA ad _ _ _ _ _ hF) (cwV 0 X.2.2.2.2.1 (lw_V q1182 q1184 qs23 q127 q1185) rfl rfl rfl (by decide +kernel) (by constructor <;> (dsimp only) <;> omega)) rfl hag hl (ltli (ltlp hx8 (ltli (ltlp hx7 ltln)))) ltsn (k8 := 0) (cs0 (k := 0)) (by decide) hd11 dX9_product_36 rfl (fun ad g12 ι13 H locs hF X hP hag he14 hl => ?_)
  show WYq p l e ({ frames := F + 14, cells := BC, slots := BS, locals := L + 327 } : Room) s m args below meth c D dA ad0 g0 A Q Xq BC BS H locs (uc + b9) (us + d10) (F0 m 39 ls [])
  obtain ⟨hd17, hF⟩ := hF
  refine hg_new 11 [] X hP hag hl (ltli (ltlp (ltm hx8 he14) (ltli (ltlp (ltm hx7 he14) ltln)))) ltsn in_X14 tyX14 tyX14_ok (by decide +kernel) q1422 q1423 q133 hd17 dX9_product_39 rfl hF (fun H ad g18 ι19 X hP hag he20 hk21 hl hF => ?_)
  show WYq p l e ({ frames := F + 14, cells := BC, slots := BS, locals := L + 327 } : Room) s m args below meth c D dA ad0 g0 A Q Xq BC BS H locs (uc + b9 + 1) (us + d10 + 3) (F0 m 42 ls [rv ad (200 + gN g12)])
  refine ph_dup_r X dX9_product_42 ?_
  refine ph_iload_n (n := 0) X hl dX9_product_43 rfl rfl ?_
  refine ph_aload_n (n := 3) X hl dX9_product_44 rfl rfl ?_
  refine ph_aload_n (n := 1) X hl dX9_product_45 rfl rfl ?_
  refine ph_iload_n (n := 2) X hl dX9_product_46 rfl rfl ?_
  obtain ⟨b22, d23, hF⟩ := hF
  obtain ⟨hd24, hF⟩ := hF
  obtain ⟨hm37, hF⟩ := hF
  have hl : LH ad ls 4 [(0, pX x0), (1, iX x1)] := lh_sub hl [1, 2] rfl
  refine hy_callVq 7 [iX x1] [pX x2, iX r4, pX (200 + gN g12), pX (200 + gN g12)] X hP hex hm37 (met_X9_part l D dA ad _ _ hrec hlt _ _ _ hF) (cwV 1 X.2.2.2.2.1 (lw_V q1356 q1358 qs34 q127 q1359) rfl rfl rfl (by decide +kernel) (by constructor <;> (dsimp only) <;> omega)) rfl hag hl (ltlp (ltm (ltm hx8 he14) (Nat.le_of_succ_le he20)) (ltli ltln)) (ltsp (ltm (ltm hx7 he14) (Nat.le_of_succ_le he20)) (ltsi (ltsp (ltw he20) (ltsp (ltw he20) ltsn)))) (k8 := 4) (csr (csi (csr (csr (cs0 (k := 0)))))) (by decide) hd24 hd24.1 hd24.2 dX9_product_47 rfl (fun r28 ad g25 ι26 H locs hF hv29 X hP hag he27 hl => ?_)
  show WYq p l e ({ frames := F + 14, cells := BC, slots := BS, locals := L + 327 } : Room) s m args below meth c D dA ad0 g0 A Q Xq BC BS H locs (uc + b9 + 1 + b22) (us + d10 + 3 + d23) (F0 m 50 ls [rv ad r28, rv ad x2, .int r4, rv ad (200 + gN g12), rv ad (200 + gN g12)])
  obtain ⟨hd30, hF⟩ := hF
  obtain ⟨hm36, hF⟩ := hF
  refine hg_callI [iX r4, pX x2, pX r28] [pX (200 + gN g12)] X hP (cg_nz hP hm36 (by decide)) (met_X14_init l D dA ad _ _ _ _ _ hF) (cwI 3 X.2.2.2.2.1 (lw_meth q1426) rfl rfl rfl (X.2.2.2.2.1 _ q133) (X.2.2.2.2.1 _ q1424) (X.2.2.2.2.1 _ q1425) rfl (by decide +kernel) (by constructor <;> (dsimp only) <;> omega)) rfl hag hl (ltlp (ltm (ltm (ltm hx8 he14) (Nat.le_of_succ_le he20)) he27) (ltli ltln)) (ltsp (ltm (ltw he20) he27) ltsn) (k8 := 1) (csr (cs0 (k := 0))) (by decide) hd30 dX9_product_50 rfl (fun ad g31 ι32 H locs hF X hP hag he33 hl => ?_)
  show WYq p l e ({ frames := F + 14, cells := BC, slots := BS, locals := L + 327 } : Room) s m args below meth c D dA ad0 g0 A Q Xq BC BS H locs (uc + b9 + 1 + b22) (us + d10 + 3 + d23) (F0 m 53 ls [rv ad (200 + gN g12)])
  refine ph_astore_n X hl dX9_product_53 rfl (by decide) rfl (fun ls hl => ?_)
  refine lv_goto (tgt := 6) X.1 X.2.1 dX9_product_54 (by decide) ?_
  exact hk6 _ _ _ _ _ _ _ _ _ _ _ hF X hP hag (lh_sub hl [1, 2, 0] rfl)
set_option maxHeartbeats 2000000 in
theorem w_X9_product_6 {rs : (Nat → Nat → (Nat → Nat → GT → S → Prop) → Nat → Int32 → GT → S → (Nat → GT → S → Prop) → Prop)} {F L : Nat} (hrec : ∀ (BC BS : Nat) (ad : Nat → Nat) (g : GT) (ι : S) (sz : Nat) (a0 : Nat) (a1 : Int32) (Xq : Nat → Nat → GT → S → Prop) (Q : Nat → GT → S → Prop), rs BC BS Xq a0 a1 g ι Q → CYq l yX9_expr cX9_expr 3 (.object "SpoonRow$Expr") ({ frames := F, cells := BC, slots := BS, locals := L } : Room) D dA ad g ι sz [pX a0, iX a1] Q Xq BC BS) (hlt : l.stackTraces = false) (hex : ∀ x ∈ c.exceptionTable.toList, False) {Xq : Nat → Nat → GT → S → Prop} {BC BS : Nat} {Q : Nat → GT → S → Prop} : ∀ (n : Nat) (x0 : Nat) (x1 : Int32) (x2 : Nat) (g : GT) (ι : S) (uc us : Nat) (ad : Nat → Nat) (H : Heap) (locs : List Loc) (ls : Array Slot), P_X9_product_6 rs BC BS Xq Q n x0 x1 x2 g ι uc us → CX p s m args c meth cX9_product 4 (some (.object "SpoonRow$Expr")) RX9 D dA ad A → PW D dA A s.heap ad (HS g ι) H locs → HA ad0 g0 ad g → LH ad ls 4 [(0, pX x0), (1, iX x1), (2, pX x2)] → WYq p l e ({ frames := F + 14, cells := BC, slots := BS, locals := L + 327 } : Room) s m args below meth c D dA ad0 g0 A Q Xq BC BS H locs (uc) (us) (F0 m 6 ls []) := by
  intro n
  induction n with
  | zero =>
    intro x0 x1 x2 g ι uc us ad H locs ls hF
    exact hF.elim
  | succ n ih =>
    intro x0 x1 x2 g ι uc us ad H locs ls hF X hP hag hl
    rw [P_X9_product_6] at hF
    refine ph_aload_n (n := 0) X hl dX9_product_6 rfl rfl ?_
    refine ph_ldcSw (i := 19) (tx := "*") X (List.mem_of_getElem? (i := 35) rfl) dX9_product_7 ?_
    obtain ⟨hd38, hF⟩ := hF
    obtain ⟨hm42, hF⟩ := hF
    refine cg_callVi 7 [pX 39] X hP hm42 (met_X9_is l D dA ad g _ _ hF) (cwV 1 X.2.2.2.2.1 (lw_V q1289 q1291 qs26 q127 q1292) rfl rfl rfl (by decide +kernel) (by constructor <;> (dsimp only) <;> omega)) rfl hl (k8 := 0) (cs0 (k := 0)) (by decide) hd38 dX9_product_10 rfl (fun r39 ι40 H locs hF hP => ?_)
    refine lv_if_ne (tgt := 26) X.1 X.2.1 dX9_product_13 (by decide) (fun c48 => ?_) (fun c48 => ?_)
    · have hF := hF.1 c48
      exact w_X9_product_26 hrec hlt hex ih _ _ _ _ _ _ _ _ _ _ _ hF X hP hag hl
    · have hF := hF.2 c48
      refine ph_aload_n (n := 0) X hl dX9_product_16 rfl rfl ?_
      refine ph_ldcSw (i := 20) (tx := "/") X (List.mem_of_getElem? (i := 36) rfl) dX9_product_17 ?_
      refine cg_callVi 7 [pX 41] X hP hm42 (met_X9_is l D dA ad g _ _ hF) (cwV 1 X.2.2.2.2.1 (lw_V q1289 q1291 qs26 q127 q1292) rfl rfl rfl (by decide +kernel) (by constructor <;> (dsimp only) <;> omega)) rfl hl (k8 := 0) (cs0 (k := 0)) (by decide) hd38 dX9_product_20 rfl (fun r43 ι44 H locs hF hP => ?_)
      refine lv_if_eq (tgt := 57) X.1 X.2.1 dX9_product_23 (by decide) (fun c47 => ?_) (fun c47 => ?_)
      · have hF := hF.1 c47
        refine ph_aload_n (n := 2) X hl dX9_product_57 rfl rfl ?_
        obtain ⟨hx46, hF⟩ := hF
        exact hy_aret X hP hag (Or.inl ⟨_, rfl⟩) hx46 hF hd38.1 hd38.2 dX9_product_58
      · have hF := hF.2 c47
        exact w_X9_product_26 hrec hlt hex ih _ _ _ _ _ _ _ _ _ _ _ hF X hP hag hl
set_option maxHeartbeats 2000000 in
theorem we_X9_product {rs : (Nat → Nat → (Nat → Nat → GT → S → Prop) → Nat → Int32 → GT → S → (Nat → GT → S → Prop) → Prop)} {F L : Nat} (hrec : ∀ (BC BS : Nat) (ad : Nat → Nat) (g : GT) (ι : S) (sz : Nat) (a0 : Nat) (a1 : Int32) (Xq : Nat → Nat → GT → S → Prop) (Q : Nat → GT → S → Prop), rs BC BS Xq a0 a1 g ι Q → CYq l yX9_expr cX9_expr 3 (.object "SpoonRow$Expr") ({ frames := F, cells := BC, slots := BS, locals := L } : Room) D dA ad g ι sz [pX a0, iX a1] Q Xq BC BS) (hlt : l.stackTraces = false) (hex : ∀ x ∈ c.exceptionTable.toList, False) {Xq : Nat → Nat → GT → S → Prop} {BC BS : Nat} {Q : Nat → GT → S → Prop} : ∀ (a0 : Nat) (a1 : Int32) (g : GT) (ι : S) (ad : Nat → Nat) (H : Heap) (locs : List Loc) (ls : Array Slot), P_X9_product rs BC BS Xq a0 a1 g ι Q → CX p s m args c meth cX9_product 4 (some (.object "SpoonRow$Expr")) RX9 D dA ad A → PW D dA A s.heap ad (HS g ι) H locs → HA ad0 g0 ad g → LH ad ls 4 [(0, pX a0), (1, iX a1)] → WYq p l e ({ frames := F + 14, cells := BC, slots := BS, locals := L + 327 } : Room) s m args below meth c D dA ad0 g0 A Q Xq BC BS H locs (0) (0) (F0 m 0 ls []) := by
  intro a0 a1 g ι ad H locs ls hF X hP hag hl
  unfold P_X9_product at hF
  refine ph_aload_n (n := 0) X hl dX9_product_0 rfl rfl ?_
  refine ph_iload_n (n := 1) X hl dX9_product_1 rfl rfl ?_
  obtain ⟨hx49, hF⟩ := hF
  obtain ⟨b50, d51, hF⟩ := hF
  obtain ⟨hd52, hF⟩ := hF
  obtain ⟨hm58, hF⟩ := hF
  refine hy_callVq 7 [iX a1] [] X hP hex hm58 (met_X9_part l D dA ad _ _ hrec hlt _ _ _ hF) (cwV 1 X.2.2.2.2.1 (lw_V q1356 q1358 qs34 q127 q1359) rfl rfl rfl (by decide +kernel) (by constructor <;> (dsimp only) <;> omega)) rfl hag hl (ltlp hx49 (ltli ltln)) ltsn (k8 := 0) (cs0 (k := 0)) (by decide) hd52 hd52.1 hd52.2 dX9_product_2 rfl (fun r56 ad g53 ι54 H locs hF hv57 X hP hag he55 hl => ?_)
  show WYq p l e ({ frames := F + 14, cells := BC, slots := BS, locals := L + 327 } : Room) s m args below meth c D dA ad0 g0 A Q Xq BC BS H locs (0 + b50) (0 + d51) (F0 m 5 ls [rv ad r56])
  refine ph_astore_n X hl dX9_product_5 rfl (by decide) rfl (fun ls hl => ?_)
  obtain ⟨n9, hF⟩ := hF
  exact w_X9_product_6 hrec hlt hex n9 _ _ _ _ _ _ _ _ _ _ _ hF X hP hag (lh_sub hl [1, 2, 0] rfl)
set_option maxHeartbeats 2000000 in
theorem met_X9_product {rs : (Nat → Nat → (Nat → Nat → GT → S → Prop) → Nat → Int32 → GT → S → (Nat → GT → S → Prop) → Prop)} {F L : Nat} (l : Launch) (D : va_G) (dA : Nat → ClassId) (ad : Nat → Nat) (BC BS : Nat) (hrec : ∀ (BC BS : Nat) (ad : Nat → Nat) (g : GT) (ι : S) (sz : Nat) (a0 : Nat) (a1 : Int32) (Xq : Nat → Nat → GT → S → Prop) (Q : Nat → GT → S → Prop), rs BC BS Xq a0 a1 g ι Q → CYq l yX9_expr cX9_expr 3 (.object "SpoonRow$Expr") ({ frames := F, cells := BC, slots := BS, locals := L } : Room) D dA ad g ι sz [pX a0, iX a1] Q Xq BC BS) (hlt : l.stackTraces = false) {Xq : Nat → Nat → GT → S → Prop} (g : GT) (ι : S) (sz : Nat) {a0 : Nat} {a1 : Int32} {Q : Nat → GT → S → Prop} (hF : P_X9_product rs BC BS Xq a0 a1 g ι Q) : CYq l yX9_product cX9_product 4 (.object "SpoonRow$Expr") ({ frames := F + 14, cells := BC, slots := BS, locals := L + 327 } : Room) D dA ad g ι sz [pX a0, iX a1] Q Xq BC BS := by
  refine yg_enter [pX a0, iX a1] (Qc := fun A => HPq D dA ad g A Q) (XC := fun A => XHC D dA ad g A Xq) (by decide +kernel) (Nat.le_of_ble_eq_true rfl) ?_
  intro p e s m args below meth c A ls X hP hl hex
  exact we_X9_product hrec hlt hex _ _ _ _ _ _ _ _ hF X hP HA.rf hl
def P_X9_sum_26 (rs : (Nat → Nat → (Nat → Nat → GT → S → Prop) → Nat → Int32 → GT → S → (Nat → GT → S → Prop) → Prop)) (BC BS : Nat) (Xq : Nat → Nat → GT → S → Prop) (Q : Nat → GT → S → Prop) (k6 : Nat → Int32 → Nat → GT → S → Nat → Nat → Prop) (x0 : Nat) (x1 : Int32) (x2 : Nat) (g : GT) (ι : S) (uc us : Nat) : Prop := (gK g x0 = 8 ∧ ((uc ≤ BC ∧ us ≤ BS) ∧ (isStrP g (gR g x0 7) ∧ (P_J9_charAt g (gR g x0 7) 0 ι (fun r4 ι5 => (x2 < 200 + gN g ∧ (x0 < 200 + gN g ∧ (∃ b9 d10, ((uc + b9 ≤ BC ∧ us + d10 ≤ BS) ∧ (P_X9_go b9 d10 x0 g ι5 (fun g12 ι13 => ((uc + b9 + 1 ≤ BC ∧ us + d10 + 3 ≤ BS) ∧ (∀ g18 ι19, g18 = newg g12 12 0 → ι19 = newi g12 ι13 → (∃ b22 d23, ((uc + b9 + 1 + b22 ≤ BC ∧ us + d10 + 3 + d23 ≤ BS) ∧ (gK g18 x0 = 8 ∧ (P_X9_product rs b22 d23 Xq x0 x1 g18 ι19 (fun r28 g25 ι26 => ((uc + b9 + 1 + b22 ≤ BC ∧ us + d10 + 3 + d23 ≤ BS) ∧ (gK g25 (200 + gN g12) = 12 ∧ (P_X14_init 0 0 (200 + gN g12) r4 x2 r28 g25 ι26 (fun g31 ι32 => (k6 x0 x1 (200 + gN g12) g31 ι32 (uc + b9 + 1 + b22) (us + d10 + 3 + d23))))))))))))))))))))))))
def P_X9_sum_6 (rs : (Nat → Nat → (Nat → Nat → GT → S → Prop) → Nat → Int32 → GT → S → (Nat → GT → S → Prop) → Prop)) (BC BS : Nat) (Xq : Nat → Nat → GT → S → Prop) (Q : Nat → GT → S → Prop) : Nat → Nat → Int32 → Nat → GT → S → Nat → Nat → Prop
  | 0, _, _, _, _, _, _, _ => False
  | n + 1, x0, x1, x2, g, ι, uc, us => ((uc ≤ BC ∧ us ≤ BS) ∧ (gK g x0 = 8 ∧ (P_X9_is g x0 35 ι (fun r39 ι40 => ((¬ r39 = 0 → (P_X9_sum_26 rs BC BS Xq Q (fun z0 z1 z2 z3 z4 z5 z6 => P_X9_sum_6 rs BC BS Xq Q  n z0 z1 z2 z3 z4 z5 z6) x0 x1 x2 g ι40 (uc) (us))) ∧ (r39 = 0 → (P_X9_is g x0 37 ι40 (fun r43 ι44 => ((r43 = 0 → (x2 < 200 + gN g ∧ (Q x2 g ι44))) ∧ (¬ r43 = 0 → (P_X9_sum_26 rs BC BS Xq Q (fun z0 z1 z2 z3 z4 z5 z6 => P_X9_sum_6 rs BC BS Xq Q  n z0 z1 z2 z3 z4 z5 z6) x0 x1 x2 g ι44 (uc) (us))))))))))))
def P_X9_sum (rs : (Nat → Nat → (Nat → Nat → GT → S → Prop) → Nat → Int32 → GT → S → (Nat → GT → S → Prop) → Prop)) (BC BS : Nat) (Xq : Nat → Nat → GT → S → Prop) (a0 : Nat) (a1 : Int32) (g : GT) (ι : S) (Q : Nat → GT → S → Prop) : Prop := (a0 < 200 + gN g ∧ (∃ b50 d51, ((0 + b50 ≤ BC ∧ 0 + d51 ≤ BS) ∧ (gK g a0 = 8 ∧ (P_X9_product rs b50 d51 Xq a0 a1 g ι (fun r56 g53 ι54 => (∃ n9, P_X9_sum_6 rs BC BS Xq Q n9 a0 a1 r56 g53 ι54 (0 + b50) (0 + d51))))))))
set_option maxHeartbeats 2000000 in
theorem w_X9_sum_26 {rs : (Nat → Nat → (Nat → Nat → GT → S → Prop) → Nat → Int32 → GT → S → (Nat → GT → S → Prop) → Prop)} {F L : Nat} (hrec : ∀ (BC BS : Nat) (ad : Nat → Nat) (g : GT) (ι : S) (sz : Nat) (a0 : Nat) (a1 : Int32) (Xq : Nat → Nat → GT → S → Prop) (Q : Nat → GT → S → Prop), rs BC BS Xq a0 a1 g ι Q → CYq l yX9_expr cX9_expr 3 (.object "SpoonRow$Expr") ({ frames := F, cells := BC, slots := BS, locals := L } : Room) D dA ad g ι sz [pX a0, iX a1] Q Xq BC BS) (hlt : l.stackTraces = false) (hex : ∀ x ∈ c.exceptionTable.toList, False) {Xq : Nat → Nat → GT → S → Prop} {BC BS : Nat} {Q : Nat → GT → S → Prop} {k6 : Nat → Int32 → Nat → GT → S → Nat → Nat → Prop} (hk6 : ∀ (x0 : Nat) (x1 : Int32) (x2 : Nat) (g : GT) (ι : S) (uc us : Nat) (ad : Nat → Nat) (H : Heap) (locs : List Loc) (ls : Array Slot), k6 x0 x1 x2 g ι uc us → CX p s m args c meth cX9_sum 4 (some (.object "SpoonRow$Expr")) RX9 D dA ad A → PW D dA A s.heap ad (HS g ι) H locs → HA ad0 g0 ad g → LH ad ls 4 [(0, pX x0), (1, iX x1), (2, pX x2)] → WYq p l e ({ frames := F + 15, cells := BC, slots := BS, locals := L + 367 } : Room) s m args below meth c D dA ad0 g0 A Q Xq BC BS H locs (uc) (us) (F0 m 6 ls [])) : ∀ (x0 : Nat) (x1 : Int32) (x2 : Nat) (g : GT) (ι : S) (uc us : Nat) (ad : Nat → Nat) (H : Heap) (locs : List Loc) (ls : Array Slot), P_X9_sum_26 rs BC BS Xq Q k6 x0 x1 x2 g ι uc us → CX p s m args c meth cX9_sum 4 (some (.object "SpoonRow$Expr")) RX9 D dA ad A → PW D dA A s.heap ad (HS g ι) H locs → HA ad0 g0 ad g → LH ad ls 4 [(0, pX x0), (1, iX x1), (2, pX x2)] → WYq p l e ({ frames := F + 15, cells := BC, slots := BS, locals := L + 367 } : Room) s m args below meth c D dA ad0 g0 A Q Xq BC BS H locs (uc) (us) (F0 m 26 ls []) := by
  intro x0 x1 x2 g ι uc us ad H locs ls hF X hP hag hl
  unfold P_X9_sum_26 at hF
  refine ph_aload_n (n := 0) X hl dX9_sum_26 rfl rfl ?_
  obtain ⟨hm1, hF⟩ := hF
  have hv2 := gR_lt hP x0 7
  refine cg_getr 7 7 X in_X9 hP hm1 q1256 dX9_sum_27 ?_
  refine lv_iconst (v := 0) X.1 X.2.1 dX9_sum_30 (by decide) ?_
  obtain ⟨hd3, hF⟩ := hF
  obtain ⟨hm6, hF⟩ := hF
  refine cg_callRi [iX 0] X hP (str_nz hP hm6) (str_recv X hP hm6) (met_J9_charAt l D dA ad g _ _ hF) (cwV 1 X.2.2.2.2.1 (lw_V q1407 q1408 q1409 q109 q1410) rfl rfl rfl (by decide +kernel) (by constructor <;> (dsimp only) <;> omega)) rfl hl (k8 := 0) (cs0 (k := 0)) (by decide) hd3 dX9_sum_31 rfl (fun r4 ι5 H locs hF hP => ?_)
  refine ph_istore_n X hl dX9_sum_34 rfl (by decide) rfl (fun ls hl => ?_)
  refine ph_aload_n (n := 1) X hl dX9_sum_35 rfl rfl ?_
  obtain ⟨hx7, hF⟩ := hF
  obtain ⟨hx8, hF⟩ := hF
  obtain ⟨b9, d10, hF⟩ := hF
  obtain ⟨hd11, hF⟩ := hF
  refine hg_callVv 7 [] [] X hP hm1 (met_X9_go l D dA ad _ _ _ _ _ hF) (cwV 0 X.2.2.2.2.1 (lw_V q1182 q1184 qs23 q127 q1185) rfl rfl rfl (by decide +kernel) (by constructor <;> (dsimp only) <;> omega)) rfl hag hl (ltli (ltlp hx8 (ltli (ltlp hx7 ltln)))) ltsn (k8 := 0) (cs0 (k := 0)) (by decide) hd11 dX9_sum_36 rfl (fun ad g12 ι13 H locs hF X hP hag he14 hl => ?_)
  show WYq p l e ({ frames := F + 15, cells := BC, slots := BS, locals := L + 367 } : Room) s m args below meth c D dA ad0 g0 A Q Xq BC BS H locs (uc + b9) (us + d10) (F0 m 39 ls [])
  obtain ⟨hd17, hF⟩ := hF
  refine hg_new 11 [] X hP hag hl (ltli (ltlp (ltm hx8 he14) (ltli (ltlp (ltm hx7 he14) ltln)))) ltsn in_X14 tyX14 tyX14_ok (by decide +kernel) q1422 q1423 q133 hd17 dX9_sum_39 rfl hF (fun H ad g18 ι19 X hP hag he20 hk21 hl hF => ?_)
  show WYq p l e ({ frames := F + 15, cells := BC, slots := BS, locals := L + 367 } : Room) s m args below meth c D dA ad0 g0 A Q Xq BC BS H locs (uc + b9 + 1) (us + d10 + 3) (F0 m 42 ls [rv ad (200 + gN g12)])
  refine ph_dup_r X dX9_sum_42 ?_
  refine ph_iload_n (n := 0) X hl dX9_sum_43 rfl rfl ?_
  refine ph_aload_n (n := 3) X hl dX9_sum_44 rfl rfl ?_
  refine ph_aload_n (n := 1) X hl dX9_sum_45 rfl rfl ?_
  refine ph_iload_n (n := 2) X hl dX9_sum_46 rfl rfl ?_
  obtain ⟨b22, d23, hF⟩ := hF
  obtain ⟨hd24, hF⟩ := hF
  obtain ⟨hm37, hF⟩ := hF
  have hl : LH ad ls 4 [(0, pX x0), (1, iX x1)] := lh_sub hl [1, 2] rfl
  refine hy_callVq 7 [iX x1] [pX x2, iX r4, pX (200 + gN g12), pX (200 + gN g12)] X hP hex hm37 (met_X9_product l D dA ad _ _ hrec hlt _ _ _ hF) (cwV 1 X.2.2.2.2.1 (lw_V q1352 q1354 qs33 q127 q1355) rfl rfl rfl (by decide +kernel) (by constructor <;> (dsimp only) <;> omega)) rfl hag hl (ltlp (ltm (ltm hx8 he14) (Nat.le_of_succ_le he20)) (ltli ltln)) (ltsp (ltm (ltm hx7 he14) (Nat.le_of_succ_le he20)) (ltsi (ltsp (ltw he20) (ltsp (ltw he20) ltsn)))) (k8 := 4) (csr (csi (csr (csr (cs0 (k := 0)))))) (by decide) hd24 hd24.1 hd24.2 dX9_sum_47 rfl (fun r28 ad g25 ι26 H locs hF hv29 X hP hag he27 hl => ?_)
  show WYq p l e ({ frames := F + 15, cells := BC, slots := BS, locals := L + 367 } : Room) s m args below meth c D dA ad0 g0 A Q Xq BC BS H locs (uc + b9 + 1 + b22) (us + d10 + 3 + d23) (F0 m 50 ls [rv ad r28, rv ad x2, .int r4, rv ad (200 + gN g12), rv ad (200 + gN g12)])
  obtain ⟨hd30, hF⟩ := hF
  obtain ⟨hm36, hF⟩ := hF
  refine hg_callI [iX r4, pX x2, pX r28] [pX (200 + gN g12)] X hP (cg_nz hP hm36 (by decide)) (met_X14_init l D dA ad _ _ _ _ _ hF) (cwI 3 X.2.2.2.2.1 (lw_meth q1426) rfl rfl rfl (X.2.2.2.2.1 _ q133) (X.2.2.2.2.1 _ q1424) (X.2.2.2.2.1 _ q1425) rfl (by decide +kernel) (by constructor <;> (dsimp only) <;> omega)) rfl hag hl (ltlp (ltm (ltm (ltm hx8 he14) (Nat.le_of_succ_le he20)) he27) (ltli ltln)) (ltsp (ltm (ltw he20) he27) ltsn) (k8 := 1) (csr (cs0 (k := 0))) (by decide) hd30 dX9_sum_50 rfl (fun ad g31 ι32 H locs hF X hP hag he33 hl => ?_)
  show WYq p l e ({ frames := F + 15, cells := BC, slots := BS, locals := L + 367 } : Room) s m args below meth c D dA ad0 g0 A Q Xq BC BS H locs (uc + b9 + 1 + b22) (us + d10 + 3 + d23) (F0 m 53 ls [rv ad (200 + gN g12)])
  refine ph_astore_n X hl dX9_sum_53 rfl (by decide) rfl (fun ls hl => ?_)
  refine lv_goto (tgt := 6) X.1 X.2.1 dX9_sum_54 (by decide) ?_
  exact hk6 _ _ _ _ _ _ _ _ _ _ _ hF X hP hag (lh_sub hl [1, 2, 0] rfl)
set_option maxHeartbeats 2000000 in
theorem w_X9_sum_6 {rs : (Nat → Nat → (Nat → Nat → GT → S → Prop) → Nat → Int32 → GT → S → (Nat → GT → S → Prop) → Prop)} {F L : Nat} (hrec : ∀ (BC BS : Nat) (ad : Nat → Nat) (g : GT) (ι : S) (sz : Nat) (a0 : Nat) (a1 : Int32) (Xq : Nat → Nat → GT → S → Prop) (Q : Nat → GT → S → Prop), rs BC BS Xq a0 a1 g ι Q → CYq l yX9_expr cX9_expr 3 (.object "SpoonRow$Expr") ({ frames := F, cells := BC, slots := BS, locals := L } : Room) D dA ad g ι sz [pX a0, iX a1] Q Xq BC BS) (hlt : l.stackTraces = false) (hex : ∀ x ∈ c.exceptionTable.toList, False) {Xq : Nat → Nat → GT → S → Prop} {BC BS : Nat} {Q : Nat → GT → S → Prop} : ∀ (n : Nat) (x0 : Nat) (x1 : Int32) (x2 : Nat) (g : GT) (ι : S) (uc us : Nat) (ad : Nat → Nat) (H : Heap) (locs : List Loc) (ls : Array Slot), P_X9_sum_6 rs BC BS Xq Q n x0 x1 x2 g ι uc us → CX p s m args c meth cX9_sum 4 (some (.object "SpoonRow$Expr")) RX9 D dA ad A → PW D dA A s.heap ad (HS g ι) H locs → HA ad0 g0 ad g → LH ad ls 4 [(0, pX x0), (1, iX x1), (2, pX x2)] → WYq p l e ({ frames := F + 15, cells := BC, slots := BS, locals := L + 367 } : Room) s m args below meth c D dA ad0 g0 A Q Xq BC BS H locs (uc) (us) (F0 m 6 ls []) := by
  intro n
  induction n with
  | zero =>
    intro x0 x1 x2 g ι uc us ad H locs ls hF
    exact hF.elim
  | succ n ih =>
    intro x0 x1 x2 g ι uc us ad H locs ls hF X hP hag hl
    rw [P_X9_sum_6] at hF
    refine ph_aload_n (n := 0) X hl dX9_sum_6 rfl rfl ?_
    refine ph_ldcSw (i := 17) (tx := "+") X (List.mem_of_getElem? (i := 37) rfl) dX9_sum_7 ?_
    obtain ⟨hd38, hF⟩ := hF
    obtain ⟨hm42, hF⟩ := hF
    refine cg_callVi 7 [pX 35] X hP hm42 (met_X9_is l D dA ad g _ _ hF) (cwV 1 X.2.2.2.2.1 (lw_V q1289 q1291 qs26 q127 q1292) rfl rfl rfl (by decide +kernel) (by constructor <;> (dsimp only) <;> omega)) rfl hl (k8 := 0) (cs0 (k := 0)) (by decide) hd38 dX9_sum_10 rfl (fun r39 ι40 H locs hF hP => ?_)
    refine lv_if_ne (tgt := 26) X.1 X.2.1 dX9_sum_13 (by decide) (fun c48 => ?_) (fun c48 => ?_)
    · have hF := hF.1 c48
      exact w_X9_sum_26 hrec hlt hex ih _ _ _ _ _ _ _ _ _ _ _ hF X hP hag hl
    · have hF := hF.2 c48
      refine ph_aload_n (n := 0) X hl dX9_sum_16 rfl rfl ?_
      refine ph_ldcSw (i := 18) (tx := "-") X (List.mem_of_getElem? (i := 38) rfl) dX9_sum_17 ?_
      refine cg_callVi 7 [pX 37] X hP hm42 (met_X9_is l D dA ad g _ _ hF) (cwV 1 X.2.2.2.2.1 (lw_V q1289 q1291 qs26 q127 q1292) rfl rfl rfl (by decide +kernel) (by constructor <;> (dsimp only) <;> omega)) rfl hl (k8 := 0) (cs0 (k := 0)) (by decide) hd38 dX9_sum_20 rfl (fun r43 ι44 H locs hF hP => ?_)
      refine lv_if_eq (tgt := 57) X.1 X.2.1 dX9_sum_23 (by decide) (fun c47 => ?_) (fun c47 => ?_)
      · have hF := hF.1 c47
        refine ph_aload_n (n := 2) X hl dX9_sum_57 rfl rfl ?_
        obtain ⟨hx46, hF⟩ := hF
        exact hy_aret X hP hag (Or.inl ⟨_, rfl⟩) hx46 hF hd38.1 hd38.2 dX9_sum_58
      · have hF := hF.2 c47
        exact w_X9_sum_26 hrec hlt hex ih _ _ _ _ _ _ _ _ _ _ _ hF X hP hag hl
set_option maxHeartbeats 2000000 in
theorem we_X9_sum {rs : (Nat → Nat → (Nat → Nat → GT → S → Prop) → Nat → Int32 → GT → S → (Nat → GT → S → Prop) → Prop)} {F L : Nat} (hrec : ∀ (BC BS : Nat) (ad : Nat → Nat) (g : GT) (ι : S) (sz : Nat) (a0 : Nat) (a1 : Int32) (Xq : Nat → Nat → GT → S → Prop) (Q : Nat → GT → S → Prop), rs BC BS Xq a0 a1 g ι Q → CYq l yX9_expr cX9_expr 3 (.object "SpoonRow$Expr") ({ frames := F, cells := BC, slots := BS, locals := L } : Room) D dA ad g ι sz [pX a0, iX a1] Q Xq BC BS) (hlt : l.stackTraces = false) (hex : ∀ x ∈ c.exceptionTable.toList, False) {Xq : Nat → Nat → GT → S → Prop} {BC BS : Nat} {Q : Nat → GT → S → Prop} : ∀ (a0 : Nat) (a1 : Int32) (g : GT) (ι : S) (ad : Nat → Nat) (H : Heap) (locs : List Loc) (ls : Array Slot), P_X9_sum rs BC BS Xq a0 a1 g ι Q → CX p s m args c meth cX9_sum 4 (some (.object "SpoonRow$Expr")) RX9 D dA ad A → PW D dA A s.heap ad (HS g ι) H locs → HA ad0 g0 ad g → LH ad ls 4 [(0, pX a0), (1, iX a1)] → WYq p l e ({ frames := F + 15, cells := BC, slots := BS, locals := L + 367 } : Room) s m args below meth c D dA ad0 g0 A Q Xq BC BS H locs (0) (0) (F0 m 0 ls []) := by
  intro a0 a1 g ι ad H locs ls hF X hP hag hl
  unfold P_X9_sum at hF
  refine ph_aload_n (n := 0) X hl dX9_sum_0 rfl rfl ?_
  refine ph_iload_n (n := 1) X hl dX9_sum_1 rfl rfl ?_
  obtain ⟨hx49, hF⟩ := hF
  obtain ⟨b50, d51, hF⟩ := hF
  obtain ⟨hd52, hF⟩ := hF
  obtain ⟨hm58, hF⟩ := hF
  refine hy_callVq 7 [iX a1] [] X hP hex hm58 (met_X9_product l D dA ad _ _ hrec hlt _ _ _ hF) (cwV 1 X.2.2.2.2.1 (lw_V q1352 q1354 qs33 q127 q1355) rfl rfl rfl (by decide +kernel) (by constructor <;> (dsimp only) <;> omega)) rfl hag hl (ltlp hx49 (ltli ltln)) ltsn (k8 := 0) (cs0 (k := 0)) (by decide) hd52 hd52.1 hd52.2 dX9_sum_2 rfl (fun r56 ad g53 ι54 H locs hF hv57 X hP hag he55 hl => ?_)
  show WYq p l e ({ frames := F + 15, cells := BC, slots := BS, locals := L + 367 } : Room) s m args below meth c D dA ad0 g0 A Q Xq BC BS H locs (0 + b50) (0 + d51) (F0 m 5 ls [rv ad r56])
  refine ph_astore_n X hl dX9_sum_5 rfl (by decide) rfl (fun ls hl => ?_)
  obtain ⟨n9, hF⟩ := hF
  exact w_X9_sum_6 hrec hlt hex n9 _ _ _ _ _ _ _ _ _ _ _ hF X hP hag (lh_sub hl [1, 2, 0] rfl)
set_option maxHeartbeats 2000000 in
theorem met_X9_sum {rs : (Nat → Nat → (Nat → Nat → GT → S → Prop) → Nat → Int32 → GT → S → (Nat → GT → S → Prop) → Prop)} {F L : Nat} (l : Launch) (D : va_G) (dA : Nat → ClassId) (ad : Nat → Nat) (BC BS : Nat) (hrec : ∀ (BC BS : Nat) (ad : Nat → Nat) (g : GT) (ι : S) (sz : Nat) (a0 : Nat) (a1 : Int32) (Xq : Nat → Nat → GT → S → Prop) (Q : Nat → GT → S → Prop), rs BC BS Xq a0 a1 g ι Q → CYq l yX9_expr cX9_expr 3 (.object "SpoonRow$Expr") ({ frames := F, cells := BC, slots := BS, locals := L } : Room) D dA ad g ι sz [pX a0, iX a1] Q Xq BC BS) (hlt : l.stackTraces = false) {Xq : Nat → Nat → GT → S → Prop} (g : GT) (ι : S) (sz : Nat) {a0 : Nat} {a1 : Int32} {Q : Nat → GT → S → Prop} (hF : P_X9_sum rs BC BS Xq a0 a1 g ι Q) : CYq l yX9_sum cX9_sum 4 (.object "SpoonRow$Expr") ({ frames := F + 15, cells := BC, slots := BS, locals := L + 367 } : Room) D dA ad g ι sz [pX a0, iX a1] Q Xq BC BS := by
  refine yg_enter [pX a0, iX a1] (Qc := fun A => HPq D dA ad g A Q) (XC := fun A => XHC D dA ad g A Xq) (by decide +kernel) (Nat.le_of_ble_eq_true rfl) ?_
  intro p e s m args below meth c A ls X hP hl hex
  exact we_X9_sum hrec hlt hex _ _ _ _ _ _ _ _ hF X hP HA.rf hl
def P_X9_not_91 (rs : (Nat → Nat → (Nat → Nat → GT → S → Prop) → Nat → Int32 → GT → S → (Nat → GT → S → Prop) → Prop)) (BC BS : Nat) (Xq : Nat → Nat → GT → S → Prop) (Q : Nat → GT → S → Prop) : Nat → Int32 → Nat → GT → S → Nat → Nat → Prop
  | 0, _, _, _, _, _, _ => False
  | n + 1, x2, x3, g, ι, uc, us => ((x2 ≤ 0 → ((uc ≤ BC ∧ us ≤ BS) ∧ (x3 < 200 + gN g ∧ (Q x3 g ι)))) ∧ (¬ x2 ≤ 0 → (x3 < 200 + gN g ∧ ((uc + 1 ≤ BC ∧ us + 1 ≤ BS) ∧ (∀ g5 ι6, g5 = newg g 13 0 → ι6 = newi g ι → ((uc + 1 ≤ BC ∧ us + 1 ≤ BS) ∧ (P_X15_init 0 0 (200 + gN g) x3 g5 ι6 (fun g10 ι11 => (P_X9_not_91 rs BC BS Xq Q  n (x2 + (-1)) (200 + gN g) g10 ι11 (uc + 1) (us + 1))))))))))
def P_X9_not_61 (rs : (Nat → Nat → (Nat → Nat → GT → S → Prop) → Nat → Int32 → GT → S → (Nat → GT → S → Prop) → Prop)) (BC BS : Nat) (Xq : Nat → Nat → GT → S → Prop) (Q : Nat → GT → S → Prop) (x0 : Nat) (x1 : Int32) (x2 : Int32) (x3 : Nat) (g : GT) (ι : S) (uc us : Nat) : Prop := (gK g x0 = 8 ∧ ((uc ≤ BC ∧ us ≤ BS) ∧ (isStrP g (gR g x0 7) ∧ (P_J9_charAt g (gR g x0 7) 0 ι (fun r19 ι20 => (x3 < 200 + gN g ∧ (x0 < 200 + gN g ∧ (∃ b24 d25, ((uc + b24 ≤ BC ∧ us + d25 ≤ BS) ∧ (P_X9_go b24 d25 x0 g ι20 (fun g27 ι28 => ((uc + b24 + 1 ≤ BC ∧ us + d25 + 3 ≤ BS) ∧ (∀ g33 ι34, g33 = newg g27 12 0 → ι34 = newi g27 ι28 → (∃ b37 d38, ((uc + b24 + 1 + b37 ≤ BC ∧ us + d25 + 3 + d38 ≤ BS) ∧ (gK g33 x0 = 8 ∧ (P_X9_sum rs b37 d38 Xq x0 x1 g33 ι34 (fun r43 g40 ι41 => ((uc + b24 + 1 + b37 ≤ BC ∧ us + d25 + 3 + d38 ≤ BS) ∧ (gK g40 (200 + gN g27) = 12 ∧ (P_X14_init 0 0 (200 + gN g27) r19 x3 r43 g40 ι41 (fun g46 ι47 => (∃ n9, P_X9_not_91 rs BC BS Xq Q n9 x2 (200 + gN g27) g46 ι47 (uc + b24 + 1 + b37) (us + d25 + 3 + d38))))))))))))))))))))))))
def P_X9_not_2 (rs : (Nat → Nat → (Nat → Nat → GT → S → Prop) → Nat → Int32 → GT → S → (Nat → GT → S → Prop) → Prop)) (BC BS : Nat) (Xq : Nat → Nat → GT → S → Prop) (Q : Nat → GT → S → Prop) : Nat → Nat → Int32 → Int32 → GT → S → Nat → Nat → Prop
  | 0, _, _, _, _, _, _, _ => False
  | n + 1, x0, x1, x2, g, ι, uc, us => ((uc ≤ BC ∧ us ≤ BS) ∧ (gK g x0 = 8 ∧ (P_X9_is g x0 29 ι (fun r54 ι55 => ((r54 = 0 → (x0 < 200 + gN g ∧ (∃ b59 d60, ((uc + b59 ≤ BC ∧ us + d60 ≤ BS) ∧ (P_X9_sum rs b59 d60 Xq x0 x1 g ι55 (fun r65 g62 ι63 => (gK g62 x0 = 8 ∧ (P_X9_is g62 x0 31 ι63 (fun r67 ι68 => ((¬ r67 = 0 → (P_X9_not_61 rs BC BS Xq Q x0 x1 x2 r65 g62 ι68 (uc + b59) (us + d60))) ∧ (r67 = 0 → (P_X9_is g62 x0 33 ι68 (fun r71 ι72 => ((r71 = 0 → (∃ n9, P_X9_not_91 rs BC BS Xq Q n9 x2 r65 g62 ι72 (uc + b59) (us + d60))) ∧ (¬ r71 = 0 → (P_X9_not_61 rs BC BS Xq Q x0 x1 x2 r65 g62 ι72 (uc + b59) (us + d60))))))))))))))))) ∧ (¬ r54 = 0 → ((6 ≤ x2 → (x0 < 200 + gN g ∧ (∃ b77 d78, ((uc + b77 ≤ BC ∧ us + d78 ≤ BS) ∧ (P_X9_check b77 d78 Xq x0 0 2 g ι55 (fun g80 ι81 => (∃ b85 d86, ((uc + b77 + b85 ≤ BC ∧ us + d78 + d86 ≤ BS) ∧ (gK g80 x0 = 8 ∧ (P_X9_go b85 d86 x0 g80 ι81 (fun g88 ι89 => (P_X9_not_2 rs BC BS Xq Q  n x0 x1 (x2 + 1) g88 ι89 (uc + b77 + b85) (us + d78 + d86))))))))))))) ∧ (¬ 6 ≤ x2 → (x0 < 200 + gN g ∧ (∃ b95 d96, ((uc + b95 ≤ BC ∧ us + d96 ≤ BS) ∧ (P_X9_check b95 d96 Xq x0 1 2 g ι55 (fun g98 ι99 => (∃ b103 d104, ((uc + b95 + b103 ≤ BC ∧ us + d96 + d104 ≤ BS) ∧ (gK g98 x0 = 8 ∧ (P_X9_go b103 d104 x0 g98 ι99 (fun g106 ι107 => (P_X9_not_2 rs BC BS Xq Q  n x0 x1 (x2 + 1) g106 ι107 (uc + b95 + b103) (us + d96 + d104))))))))))))))))))))
def P_X9_not (rs : (Nat → Nat → (Nat → Nat → GT → S → Prop) → Nat → Int32 → GT → S → (Nat → GT → S → Prop) → Prop)) (BC BS : Nat) (Xq : Nat → Nat → GT → S → Prop) (a0 : Nat) (a1 : Int32) (g : GT) (ι : S) (Q : Nat → GT → S → Prop) : Prop := (∃ n9, P_X9_not_2 rs BC BS Xq Q n9 a0 a1 0 g ι (0) (0))
set_option maxHeartbeats 2000000 in
theorem w_X9_not_91 {rs : (Nat → Nat → (Nat → Nat → GT → S → Prop) → Nat → Int32 → GT → S → (Nat → GT → S → Prop) → Prop)} {F L : Nat} (hrec : ∀ (BC BS : Nat) (ad : Nat → Nat) (g : GT) (ι : S) (sz : Nat) (a0 : Nat) (a1 : Int32) (Xq : Nat → Nat → GT → S → Prop) (Q : Nat → GT → S → Prop), rs BC BS Xq a0 a1 g ι Q → CYq l yX9_expr cX9_expr 3 (.object "SpoonRow$Expr") ({ frames := F, cells := BC, slots := BS, locals := L } : Room) D dA ad g ι sz [pX a0, iX a1] Q Xq BC BS) (hlt : l.stackTraces = false) (hex : ∀ x ∈ c.exceptionTable.toList, False) {Xq : Nat → Nat → GT → S → Prop} {BC BS : Nat} {Q : Nat → GT → S → Prop} : ∀ (n : Nat) (x2 : Int32) (x3 : Nat) (g : GT) (ι : S) (uc us : Nat) (ad : Nat → Nat) (H : Heap) (locs : List Loc) (ls : Array Slot), P_X9_not_91 rs BC BS Xq Q n x2 x3 g ι uc us → CX p s m args c meth cX9_not 5 (some (.object "SpoonRow$Expr")) RX9 D dA ad A → PW D dA A s.heap ad (HS g ι) H locs → HA ad0 g0 ad g → LH ad ls 5 [(2, iX x2), (3, pX x3)] → WYq p l e ({ frames := F + 16, cells := BC, slots := BS, locals := L + 407 } : Room) s m args below meth c D dA ad0 g0 A Q Xq BC BS H locs (uc) (us) (F0 m 91 ls []) := by
  intro n
  induction n with
  | zero =>
    intro x2 x3 g ι uc us ad H locs ls hF
    exact hF.elim
  | succ n ih =>
    intro x2 x3 g ι uc us ad H locs ls hF X hP hag hl
    rw [P_X9_not_91] at hF
    refine ph_iload_n (n := 0) X hl dX9_not_91 rfl rfl ?_
    refine lv_if_le (tgt := 110) X.1 X.2.1 dX9_not_92 (by decide) (fun c15 => ?_) (fun c15 => ?_)
    · have hF := hF.1 c15
      refine ph_aload_n (n := 1) X hl dX9_not_110 rfl rfl ?_
      obtain ⟨hd1, hF⟩ := hF
      obtain ⟨hx2, hF⟩ := hF
      exact hy_aret X hP hag (Or.inl ⟨_, rfl⟩) hx2 hF hd1.1 hd1.2 dX9_not_111
    · have hF := hF.2 c15
      obtain ⟨hx3, hF⟩ := hF
      obtain ⟨hd4, hF⟩ := hF
      refine hg_new 12 [] X hP hag hl (ltli (ltlp hx3 ltln)) ltsn in_X15 tyX15 tyX15_ok (by decide +kernel) q1442 q1443 q134 hd4 dX9_not_95 rfl hF (fun H ad g5 ι6 X hP hag he7 hk8 hl hF => ?_)
      show WYq p l e ({ frames := F + 16, cells := BC, slots := BS, locals := L + 407 } : Room) s m args below meth c D dA ad0 g0 A Q Xq BC BS H locs (uc + 1) (us + 1) (F0 m 98 ls [rv ad (200 + gN g)])
      refine ph_dup_r X dX9_not_98 ?_
      refine ph_aload_n (n := 1) X hl dX9_not_99 rfl rfl ?_
      obtain ⟨hd9, hF⟩ := hF
      have hl : LH ad ls 5 [(2, iX x2)] := lh_sub hl [0] rfl
      refine hg_callI [pX x3] [pX (200 + gN g)] X hP (cg_nz hP hk8.1 (by decide)) (met_X15_init l D dA ad _ _ _ _ _ hF) (cwI 1 X.2.2.2.2.1 (lw_meth q1446) rfl rfl rfl (X.2.2.2.2.1 _ q134) (X.2.2.2.2.1 _ q1444) (X.2.2.2.2.1 _ q1445) rfl (by decide +kernel) (by constructor <;> (dsimp only) <;> omega)) rfl hag hl (ltli ltln) (ltsp (ltw he7) ltsn) (k8 := 1) (csr (cs0 (k := 0))) (by decide) hd9 dX9_not_100 rfl (fun ad g10 ι11 H locs hF X hP hag he12 hl => ?_)
      show WYq p l e ({ frames := F + 16, cells := BC, slots := BS, locals := L + 407 } : Room) s m args below meth c D dA ad0 g0 A Q Xq BC BS H locs (uc + 1) (us + 1) (F0 m 103 ls [rv ad (200 + gN g)])
      refine ph_astore_n X hl dX9_not_103 rfl (by decide) rfl (fun ls hl => ?_)
      refine ph_iinc (v := x2 + (-1)) (k := 1) X hl dX9_not_104 rfl rfl (by decide) rfl (fun ls hl => ?_)
      refine lv_goto (tgt := 91) X.1 X.2.1 dX9_not_107 (by decide) ?_
      exact ih _ _ _ _ _ _ _ _ _ _ hF X hP hag hl
set_option maxHeartbeats 2000000 in
theorem w_X9_not_61 {rs : (Nat → Nat → (Nat → Nat → GT → S → Prop) → Nat → Int32 → GT → S → (Nat → GT → S → Prop) → Prop)} {F L : Nat} (hrec : ∀ (BC BS : Nat) (ad : Nat → Nat) (g : GT) (ι : S) (sz : Nat) (a0 : Nat) (a1 : Int32) (Xq : Nat → Nat → GT → S → Prop) (Q : Nat → GT → S → Prop), rs BC BS Xq a0 a1 g ι Q → CYq l yX9_expr cX9_expr 3 (.object "SpoonRow$Expr") ({ frames := F, cells := BC, slots := BS, locals := L } : Room) D dA ad g ι sz [pX a0, iX a1] Q Xq BC BS) (hlt : l.stackTraces = false) (hex : ∀ x ∈ c.exceptionTable.toList, False) {Xq : Nat → Nat → GT → S → Prop} {BC BS : Nat} {Q : Nat → GT → S → Prop} : ∀ (x0 : Nat) (x1 : Int32) (x2 : Int32) (x3 : Nat) (g : GT) (ι : S) (uc us : Nat) (ad : Nat → Nat) (H : Heap) (locs : List Loc) (ls : Array Slot), P_X9_not_61 rs BC BS Xq Q x0 x1 x2 x3 g ι uc us → CX p s m args c meth cX9_not 5 (some (.object "SpoonRow$Expr")) RX9 D dA ad A → PW D dA A s.heap ad (HS g ι) H locs → HA ad0 g0 ad g → LH ad ls 5 [(0, pX x0), (1, iX x1), (2, iX x2), (3, pX x3)] → WYq p l e ({ frames := F + 16, cells := BC, slots := BS, locals := L + 407 } : Room) s m args below meth c D dA ad0 g0 A Q Xq BC BS H locs (uc) (us) (F0 m 61 ls []) := by
  intro x0 x1 x2 x3 g ι uc us ad H locs ls hF X hP hag hl
  unfold P_X9_not_61 at hF
  refine ph_aload_n (n := 0) X hl dX9_not_61 rfl rfl ?_
  obtain ⟨hm16, hF⟩ := hF
  have hv17 := gR_lt hP x0 7
  refine cg_getr 7 7 X in_X9 hP hm16 q1256 dX9_not_62 ?_
  refine lv_iconst (v := 0) X.1 X.2.1 dX9_not_65 (by decide) ?_
  obtain ⟨hd18, hF⟩ := hF
  obtain ⟨hm21, hF⟩ := hF
  refine cg_callRi [iX 0] X hP (str_nz hP hm21) (str_recv X hP hm21) (met_J9_charAt l D dA ad g _ _ hF) (cwV 1 X.2.2.2.2.1 (lw_V q1407 q1408 q1409 q109 q1410) rfl rfl rfl (by decide +kernel) (by constructor <;> (dsimp only) <;> omega)) rfl hl (k8 := 0) (cs0 (k := 0)) (by decide) hd18 dX9_not_66 rfl (fun r19 ι20 H locs hF hP => ?_)
  refine ph_istore X hl dX9_not_69 (by decide) rfl (fun ls hl => ?_)
  refine ph_aload_n (n := 1) X hl dX9_not_71 rfl rfl ?_
  obtain ⟨hx22, hF⟩ := hF
  obtain ⟨hx23, hF⟩ := hF
  obtain ⟨b24, d25, hF⟩ := hF
  obtain ⟨hd26, hF⟩ := hF
  refine hg_callVv 7 [] [] X hP hm16 (met_X9_go l D dA ad _ _ _ _ _ hF) (cwV 0 X.2.2.2.2.1 (lw_V q1182 q1184 qs23 q127 q1185) rfl rfl rfl (by decide +kernel) (by constructor <;> (dsimp only) <;> omega)) rfl hag hl (ltli (ltlp hx23 (ltli (ltli (ltlp hx22 ltln))))) ltsn (k8 := 0) (cs0 (k := 0)) (by decide) hd26 dX9_not_72 rfl (fun ad g27 ι28 H locs hF X hP hag he29 hl => ?_)
  show WYq p l e ({ frames := F + 16, cells := BC, slots := BS, locals := L + 407 } : Room) s m args below meth c D dA ad0 g0 A Q Xq BC BS H locs (uc + b24) (us + d25) (F0 m 75 ls [])
  obtain ⟨hd32, hF⟩ := hF
  refine hg_new 11 [] X hP hag hl (ltli (ltlp (ltm hx23 he29) (ltli (ltli (ltlp (ltm hx22 he29) ltln))))) ltsn in_X14 tyX14 tyX14_ok (by decide +kernel) q1422 q1423 q133 hd32 dX9_not_75 rfl hF (fun H ad g33 ι34 X hP hag he35 hk36 hl hF => ?_)
  show WYq p l e ({ frames := F + 16, cells := BC, slots := BS, locals := L + 407 } : Room) s m args below meth c D dA ad0 g0 A Q Xq BC BS H locs (uc + b24 + 1) (us + d25 + 3) (F0 m 78 ls [rv ad (200 + gN g27)])
  refine ph_dup_r X dX9_not_78 ?_
  refine ph_iload (n := 0) X hl dX9_not_79 rfl ?_
  refine ph_aload_n (n := 4) X hl dX9_not_81 rfl rfl ?_
  refine ph_aload_n (n := 1) X hl dX9_not_82 rfl rfl ?_
  refine ph_iload_n (n := 2) X hl dX9_not_83 rfl rfl ?_
  obtain ⟨b37, d38, hF⟩ := hF
  obtain ⟨hd39, hF⟩ := hF
  obtain ⟨hm52, hF⟩ := hF
  have hl : LH ad ls 5 [(2, iX x2)] := lh_sub hl [3] rfl
  refine hy_callVq 7 [iX x1] [pX x3, iX r19, pX (200 + gN g27), pX (200 + gN g27)] X hP hex hm52 (met_X9_sum l D dA ad _ _ hrec hlt _ _ _ hF) (cwV 1 X.2.2.2.2.1 (lw_V q1348 q1350 qs32 q127 q1351) rfl rfl rfl (by decide +kernel) (by constructor <;> (dsimp only) <;> omega)) rfl hag hl (ltli ltln) (ltsp (ltm (ltm hx22 he29) (Nat.le_of_succ_le he35)) (ltsi (ltsp (ltw he35) (ltsp (ltw he35) ltsn)))) (k8 := 4) (csr (csi (csr (csr (cs0 (k := 0)))))) (by decide) hd39 hd39.1 hd39.2 dX9_not_84 rfl (fun r43 ad g40 ι41 H locs hF hv44 X hP hag he42 hl => ?_)
  show WYq p l e ({ frames := F + 16, cells := BC, slots := BS, locals := L + 407 } : Room) s m args below meth c D dA ad0 g0 A Q Xq BC BS H locs (uc + b24 + 1 + b37) (us + d25 + 3 + d38) (F0 m 87 ls [rv ad r43, rv ad x3, .int r19, rv ad (200 + gN g27), rv ad (200 + gN g27)])
  obtain ⟨hd45, hF⟩ := hF
  obtain ⟨hm51, hF⟩ := hF
  refine hg_callI [iX r19, pX x3, pX r43] [pX (200 + gN g27)] X hP (cg_nz hP hm51 (by decide)) (met_X14_init l D dA ad _ _ _ _ _ hF) (cwI 3 X.2.2.2.2.1 (lw_meth q1426) rfl rfl rfl (X.2.2.2.2.1 _ q133) (X.2.2.2.2.1 _ q1424) (X.2.2.2.2.1 _ q1425) rfl (by decide +kernel) (by constructor <;> (dsimp only) <;> omega)) rfl hag hl (ltli ltln) (ltsp (ltm (ltw he35) he42) ltsn) (k8 := 1) (csr (cs0 (k := 0))) (by decide) hd45 dX9_not_87 rfl (fun ad g46 ι47 H locs hF X hP hag he48 hl => ?_)
  show WYq p l e ({ frames := F + 16, cells := BC, slots := BS, locals := L + 407 } : Room) s m args below meth c D dA ad0 g0 A Q Xq BC BS H locs (uc + b24 + 1 + b37) (us + d25 + 3 + d38) (F0 m 90 ls [rv ad (200 + gN g27)])
  refine ph_astore_n X hl dX9_not_90 rfl (by decide) rfl (fun ls hl => ?_)
  obtain ⟨n9, hF⟩ := hF
  exact w_X9_not_91 hrec hlt hex n9 _ _ _ _ _ _ _ _ _ _ hF X hP hag (lh_sub hl [1, 0] rfl)
set_option maxHeartbeats 2000000 in
theorem w_X9_not_2 {rs : (Nat → Nat → (Nat → Nat → GT → S → Prop) → Nat → Int32 → GT → S → (Nat → GT → S → Prop) → Prop)} {F L : Nat} (hrec : ∀ (BC BS : Nat) (ad : Nat → Nat) (g : GT) (ι : S) (sz : Nat) (a0 : Nat) (a1 : Int32) (Xq : Nat → Nat → GT → S → Prop) (Q : Nat → GT → S → Prop), rs BC BS Xq a0 a1 g ι Q → CYq l yX9_expr cX9_expr 3 (.object "SpoonRow$Expr") ({ frames := F, cells := BC, slots := BS, locals := L } : Room) D dA ad g ι sz [pX a0, iX a1] Q Xq BC BS) (hlt : l.stackTraces = false) (hex : ∀ x ∈ c.exceptionTable.toList, False) {Xq : Nat → Nat → GT → S → Prop} {BC BS : Nat} {Q : Nat → GT → S → Prop} : ∀ (n : Nat) (x0 : Nat) (x1 : Int32) (x2 : Int32) (g : GT) (ι : S) (uc us : Nat) (ad : Nat → Nat) (H : Heap) (locs : List Loc) (ls : Array Slot), P_X9_not_2 rs BC BS Xq Q n x0 x1 x2 g ι uc us → CX p s m args c meth cX9_not 5 (some (.object "SpoonRow$Expr")) RX9 D dA ad A → PW D dA A s.heap ad (HS g ι) H locs → HA ad0 g0 ad g → LH ad ls 5 [(0, pX x0), (1, iX x1), (2, iX x2)] → WYq p l e ({ frames := F + 16, cells := BC, slots := BS, locals := L + 407 } : Room) s m args below meth c D dA ad0 g0 A Q Xq BC BS H locs (uc) (us) (F0 m 2 ls []) := by
  intro n
  induction n with
  | zero =>
    intro x0 x1 x2 g ι uc us ad H locs ls hF
    exact hF.elim
  | succ n ih =>
    intro x0 x1 x2 g ι uc us ad H locs ls hF X hP hag hl
    rw [P_X9_not_2] at hF
    refine ph_aload_n (n := 0) X hl dX9_not_2 rfl rfl ?_
    refine ph_ldcS (i := 14) (tx := "not") X (List.mem_of_getElem? (i := 26) rfl) dX9_not_3 ?_
    obtain ⟨hd53, hF⟩ := hF
    obtain ⟨hm57, hF⟩ := hF
    refine cg_callVi 7 [pX 29] X hP hm57 (met_X9_is l D dA ad g _ _ hF) (cwV 1 X.2.2.2.2.1 (lw_V q1289 q1291 qs26 q127 q1292) rfl rfl rfl (by decide +kernel) (by constructor <;> (dsimp only) <;> omega)) rfl hl (k8 := 0) (cs0 (k := 0)) (by decide) hd53 dX9_not_5 rfl (fun r54 ι55 H locs hF hP => ?_)
    refine lv_if_eq (tgt := 37) X.1 X.2.1 dX9_not_8 (by decide) (fun c113 => ?_) (fun c113 => ?_)
    · have hF := hF.1 c113
      refine ph_aload_n (n := 0) X hl dX9_not_37 rfl rfl ?_
      refine ph_iload_n (n := 1) X hl dX9_not_38 rfl rfl ?_
      obtain ⟨hx58, hF⟩ := hF
      obtain ⟨b59, d60, hF⟩ := hF
      obtain ⟨hd61, hF⟩ := hF
      refine hy_callVq 7 [iX x1] [] X hP hex hm57 (met_X9_sum l D dA ad _ _ hrec hlt _ _ _ hF) (cwV 1 X.2.2.2.2.1 (lw_V q1348 q1350 qs32 q127 q1351) rfl rfl rfl (by decide +kernel) (by constructor <;> (dsimp only) <;> omega)) rfl hag hl (ltlp hx58 (ltli (ltli ltln))) ltsn (k8 := 0) (cs0 (k := 0)) (by decide) hd61 hd61.1 hd61.2 dX9_not_39 rfl (fun r65 ad g62 ι63 H locs hF hv66 X hP hag he64 hl => ?_)
      show WYq p l e ({ frames := F + 16, cells := BC, slots := BS, locals := L + 407 } : Room) s m args below meth c D dA ad0 g0 A Q Xq BC BS H locs (uc + b59) (us + d60) (F0 m 42 ls [rv ad r65])
      refine ph_astore_n X hl dX9_not_42 rfl (by decide) rfl (fun ls hl => ?_)
      refine ph_aload_n (n := 1) X hl dX9_not_43 rfl rfl ?_
      refine ph_ldcS (i := 15) (tx := "<") X (List.mem_of_getElem? (i := 39) rfl) dX9_not_44 ?_
      obtain ⟨hm70, hF⟩ := hF
      refine cg_callVi 7 [pX 31] X hP hm70 (met_X9_is l D dA ad g62 _ _ hF) (cwV 1 X.2.2.2.2.1 (lw_V q1289 q1291 qs26 q127 q1292) rfl rfl rfl (by decide +kernel) (by constructor <;> (dsimp only) <;> omega)) rfl hl (k8 := 0) (cs0 (k := 0)) (by decide) hd61 dX9_not_46 rfl (fun r67 ι68 H locs hF hP => ?_)
      refine lv_if_ne (tgt := 61) X.1 X.2.1 dX9_not_49 (by decide) (fun c75 => ?_) (fun c75 => ?_)
      · have hF := hF.1 c75
        exact w_X9_not_61 hrec hlt hex _ _ _ _ _ _ _ _ _ _ _ _ hF X hP hag (lh_sub hl [1, 2, 3, 0] rfl)
      · have hF := hF.2 c75
        refine ph_aload_n (n := 1) X hl dX9_not_52 rfl rfl ?_
        refine ph_ldcS (i := 16) (tx := "=") X (List.mem_of_getElem? (i := 40) rfl) dX9_not_53 ?_
        refine cg_callVi 7 [pX 33] X hP hm70 (met_X9_is l D dA ad g62 _ _ hF) (cwV 1 X.2.2.2.2.1 (lw_V q1289 q1291 qs26 q127 q1292) rfl rfl rfl (by decide +kernel) (by constructor <;> (dsimp only) <;> omega)) rfl hl (k8 := 0) (cs0 (k := 0)) (by decide) hd61 dX9_not_55 rfl (fun r71 ι72 H locs hF hP => ?_)
        refine lv_if_eq (tgt := 91) X.1 X.2.1 dX9_not_58 (by decide) (fun c74 => ?_) (fun c74 => ?_)
        · have hF := hF.1 c74
          obtain ⟨n9, hF⟩ := hF
          exact w_X9_not_91 hrec hlt hex n9 _ _ _ _ _ _ _ _ _ _ hF X hP hag (lh_sub hl [3, 0] rfl)
        · have hF := hF.2 c74
          exact w_X9_not_61 hrec hlt hex _ _ _ _ _ _ _ _ _ _ _ _ hF X hP hag (lh_sub hl [1, 2, 3, 0] rfl)
    · have hF := hF.2 c113
      refine ph_aload_n (n := 0) X hl dX9_not_11 rfl rfl ?_
      refine ph_iload_n (n := 2) X hl dX9_not_12 rfl rfl ?_
      refine lv_bipush (v := 6) X.1 X.2.1 dX9_not_13 (by decide) ?_
      refine lv_icmp_ge (tgt := 22) X.1 X.2.1 dX9_not_15 (by decide) (fun c112 => ?_) (fun c112 => ?_)
      · have hF := hF.1 c112
        refine lv_iconst (v := 0) X.1 X.2.1 dX9_not_22 (by decide) ?_
        refine lv_iconst (v := 2) X.1 X.2.1 dX9_not_23 (by decide) ?_
        obtain ⟨hx76, hF⟩ := hF
        obtain ⟨b77, d78, hF⟩ := hF
        obtain ⟨hd79, hF⟩ := hF
        refine hy_callVv 7 [iX 0, iX 2] [] X hP hex hm57 (met_X9_check l D dA ad _ _ hlt _ _ _ hF) (cwV 2 X.2.2.2.2.1 (lw_V q1300 q1302 qs27 q127 q1303) rfl rfl rfl (by decide +kernel) (by constructor <;> (dsimp only) <;> omega)) rfl hag hl (ltlp hx76 (ltli (ltli ltln))) ltsn (k8 := 0) (cs0 (k := 0)) (by decide) hd79 hd79.1 hd79.2 dX9_not_24 rfl (fun ad g80 ι81 H locs hF X hP hag he82 hl => ?_)
        show WYq p l e ({ frames := F + 16, cells := BC, slots := BS, locals := L + 407 } : Room) s m args below meth c D dA ad0 g0 A Q Xq BC BS H locs (uc + b77) (us + d78) (F0 m 27 ls [])
        refine ph_aload_n (n := 0) X hl dX9_not_27 rfl rfl ?_
        obtain ⟨b85, d86, hF⟩ := hF
        obtain ⟨hd87, hF⟩ := hF
        obtain ⟨hm93, hF⟩ := hF
        refine hg_callVv 7 [] [] X hP hm93 (met_X9_go l D dA ad _ _ _ _ _ hF) (cwV 0 X.2.2.2.2.1 (lw_V q1182 q1184 qs23 q127 q1185) rfl rfl rfl (by decide +kernel) (by constructor <;> (dsimp only) <;> omega)) rfl hag hl (ltlp (ltm hx76 he82) (ltli (ltli ltln))) ltsn (k8 := 0) (cs0 (k := 0)) (by decide) hd87 dX9_not_28 rfl (fun ad g88 ι89 H locs hF X hP hag he90 hl => ?_)
        show WYq p l e ({ frames := F + 16, cells := BC, slots := BS, locals := L + 407 } : Room) s m args below meth c D dA ad0 g0 A Q Xq BC BS H locs (uc + b77 + b85) (us + d78 + d86) (F0 m 31 ls [])
        refine ph_iinc (v := x2 + 1) (k := 2) X hl dX9_not_31 rfl rfl (by decide) rfl (fun ls hl => ?_)
        refine lv_goto (tgt := 2) X.1 X.2.1 dX9_not_34 (by decide) ?_
        exact ih _ _ _ _ _ _ _ _ _ _ _ hF X hP hag (lh_sub hl [1, 2, 0] rfl)
      · have hF := hF.2 c112
        refine lv_iconst (v := 1) X.1 X.2.1 dX9_not_18 (by decide) ?_
        refine lv_goto (tgt := 23) X.1 X.2.1 dX9_not_19 (by decide) ?_
        refine lv_iconst (v := 2) X.1 X.2.1 dX9_not_23 (by decide) ?_
        obtain ⟨hx94, hF⟩ := hF
        obtain ⟨b95, d96, hF⟩ := hF
        obtain ⟨hd97, hF⟩ := hF
        refine hy_callVv 7 [iX 1, iX 2] [] X hP hex hm57 (met_X9_check l D dA ad _ _ hlt _ _ _ hF) (cwV 2 X.2.2.2.2.1 (lw_V q1300 q1302 qs27 q127 q1303) rfl rfl rfl (by decide +kernel) (by constructor <;> (dsimp only) <;> omega)) rfl hag hl (ltlp hx94 (ltli (ltli ltln))) ltsn (k8 := 0) (cs0 (k := 0)) (by decide) hd97 hd97.1 hd97.2 dX9_not_24 rfl (fun ad g98 ι99 H locs hF X hP hag he100 hl => ?_)
        show WYq p l e ({ frames := F + 16, cells := BC, slots := BS, locals := L + 407 } : Room) s m args below meth c D dA ad0 g0 A Q Xq BC BS H locs (uc + b95) (us + d96) (F0 m 27 ls [])
        refine ph_aload_n (n := 0) X hl dX9_not_27 rfl rfl ?_
        obtain ⟨b103, d104, hF⟩ := hF
        obtain ⟨hd105, hF⟩ := hF
        obtain ⟨hm111, hF⟩ := hF
        refine hg_callVv 7 [] [] X hP hm111 (met_X9_go l D dA ad _ _ _ _ _ hF) (cwV 0 X.2.2.2.2.1 (lw_V q1182 q1184 qs23 q127 q1185) rfl rfl rfl (by decide +kernel) (by constructor <;> (dsimp only) <;> omega)) rfl hag hl (ltlp (ltm hx94 he100) (ltli (ltli ltln))) ltsn (k8 := 0) (cs0 (k := 0)) (by decide) hd105 dX9_not_28 rfl (fun ad g106 ι107 H locs hF X hP hag he108 hl => ?_)
        show WYq p l e ({ frames := F + 16, cells := BC, slots := BS, locals := L + 407 } : Room) s m args below meth c D dA ad0 g0 A Q Xq BC BS H locs (uc + b95 + b103) (us + d96 + d104) (F0 m 31 ls [])
        refine ph_iinc (v := x2 + 1) (k := 2) X hl dX9_not_31 rfl rfl (by decide) rfl (fun ls hl => ?_)
        refine lv_goto (tgt := 2) X.1 X.2.1 dX9_not_34 (by decide) ?_
        exact ih _ _ _ _ _ _ _ _ _ _ _ hF X hP hag (lh_sub hl [1, 2, 0] rfl)
set_option maxHeartbeats 2000000 in
theorem we_X9_not {rs : (Nat → Nat → (Nat → Nat → GT → S → Prop) → Nat → Int32 → GT → S → (Nat → GT → S → Prop) → Prop)} {F L : Nat} (hrec : ∀ (BC BS : Nat) (ad : Nat → Nat) (g : GT) (ι : S) (sz : Nat) (a0 : Nat) (a1 : Int32) (Xq : Nat → Nat → GT → S → Prop) (Q : Nat → GT → S → Prop), rs BC BS Xq a0 a1 g ι Q → CYq l yX9_expr cX9_expr 3 (.object "SpoonRow$Expr") ({ frames := F, cells := BC, slots := BS, locals := L } : Room) D dA ad g ι sz [pX a0, iX a1] Q Xq BC BS) (hlt : l.stackTraces = false) (hex : ∀ x ∈ c.exceptionTable.toList, False) {Xq : Nat → Nat → GT → S → Prop} {BC BS : Nat} {Q : Nat → GT → S → Prop} : ∀ (a0 : Nat) (a1 : Int32) (g : GT) (ι : S) (ad : Nat → Nat) (H : Heap) (locs : List Loc) (ls : Array Slot), P_X9_not rs BC BS Xq a0 a1 g ι Q → CX p s m args c meth cX9_not 5 (some (.object "SpoonRow$Expr")) RX9 D dA ad A → PW D dA A s.heap ad (HS g ι) H locs → HA ad0 g0 ad g → LH ad ls 5 [(0, pX a0), (1, iX a1)] → WYq p l e ({ frames := F + 16, cells := BC, slots := BS, locals := L + 407 } : Room) s m args below meth c D dA ad0 g0 A Q Xq BC BS H locs (0) (0) (F0 m 0 ls []) := by
  intro a0 a1 g ι ad H locs ls hF X hP hag hl
  unfold P_X9_not at hF
  refine lv_iconst (v := 0) X.1 X.2.1 dX9_not_0 (by decide) ?_
  refine ph_istore_n X hl dX9_not_1 rfl (by decide) rfl (fun ls hl => ?_)
  obtain ⟨n9, hF⟩ := hF
  exact w_X9_not_2 hrec hlt hex n9 _ _ _ _ _ _ _ _ _ _ _ hF X hP hag (lh_sub hl [1, 2, 0] rfl)
set_option maxHeartbeats 2000000 in
theorem met_X9_not {rs : (Nat → Nat → (Nat → Nat → GT → S → Prop) → Nat → Int32 → GT → S → (Nat → GT → S → Prop) → Prop)} {F L : Nat} (l : Launch) (D : va_G) (dA : Nat → ClassId) (ad : Nat → Nat) (BC BS : Nat) (hrec : ∀ (BC BS : Nat) (ad : Nat → Nat) (g : GT) (ι : S) (sz : Nat) (a0 : Nat) (a1 : Int32) (Xq : Nat → Nat → GT → S → Prop) (Q : Nat → GT → S → Prop), rs BC BS Xq a0 a1 g ι Q → CYq l yX9_expr cX9_expr 3 (.object "SpoonRow$Expr") ({ frames := F, cells := BC, slots := BS, locals := L } : Room) D dA ad g ι sz [pX a0, iX a1] Q Xq BC BS) (hlt : l.stackTraces = false) {Xq : Nat → Nat → GT → S → Prop} (g : GT) (ι : S) (sz : Nat) {a0 : Nat} {a1 : Int32} {Q : Nat → GT → S → Prop} (hF : P_X9_not rs BC BS Xq a0 a1 g ι Q) : CYq l yX9_not cX9_not 5 (.object "SpoonRow$Expr") ({ frames := F + 16, cells := BC, slots := BS, locals := L + 407 } : Room) D dA ad g ι sz [pX a0, iX a1] Q Xq BC BS := by
  refine yg_enter [pX a0, iX a1] (Qc := fun A => HPq D dA ad g A Q) (XC := fun A => XHC D dA ad g A Xq) (by decide +kernel) (Nat.le_of_ble_eq_true rfl) ?_
  intro p e s m args below meth c A ls X hP hl hex
  exact we_X9_not hrec hlt hex _ _ _ _ _ _ _ _ hF X hP HA.rf hl
def P_X9_and_6 (rs : (Nat → Nat → (Nat → Nat → GT → S → Prop) → Nat → Int32 → GT → S → (Nat → GT → S → Prop) → Prop)) (BC BS : Nat) (Xq : Nat → Nat → GT → S → Prop) (Q : Nat → GT → S → Prop) : Nat → Nat → Int32 → Nat → GT → S → Nat → Nat → Prop
  | 0, _, _, _, _, _, _, _ => False
  | n + 1, x0, x1, x2, g, ι, uc, us => ((uc ≤ BC ∧ us ≤ BS) ∧ (gK g x0 = 8 ∧ (P_X9_is g x0 27 ι (fun r2 ι3 => ((r2 = 0 → (x2 < 200 + gN g ∧ (Q x2 g ι3))) ∧ (¬ r2 = 0 → (x2 < 200 + gN g ∧ (x0 < 200 + gN g ∧ (∃ b9 d10, ((uc + b9 ≤ BC ∧ us + d10 ≤ BS) ∧ (P_X9_go b9 d10 x0 g ι3 (fun g12 ι13 => ((uc + b9 + 1 ≤ BC ∧ us + d10 + 3 ≤ BS) ∧ (∀ g18 ι19, g18 = newg g12 12 0 → ι19 = newi g12 ι13 → (∃ b22 d23, ((uc + b9 + 1 + b22 ≤ BC ∧ us + d10 + 3 + d23 ≤ BS) ∧ (gK g18 x0 = 8 ∧ (P_X9_not rs b22 d23 Xq x0 x1 g18 ι19 (fun r28 g25 ι26 => ((uc + b9 + 1 + b22 ≤ BC ∧ us + d10 + 3 + d23 ≤ BS) ∧ (gK g25 (200 + gN g12) = 12 ∧ (P_X14_init 0 0 (200 + gN g12) 38 x2 r28 g25 ι26 (fun g31 ι32 => (P_X9_and_6 rs BC BS Xq Q  n x0 x1 (200 + gN g12) g31 ι32 (uc + b9 + 1 + b22) (us + d10 + 3 + d23)))))))))))))))))))))))))
def P_X9_and (rs : (Nat → Nat → (Nat → Nat → GT → S → Prop) → Nat → Int32 → GT → S → (Nat → GT → S → Prop) → Prop)) (BC BS : Nat) (Xq : Nat → Nat → GT → S → Prop) (a0 : Nat) (a1 : Int32) (g : GT) (ι : S) (Q : Nat → GT → S → Prop) : Prop := (a0 < 200 + gN g ∧ (∃ b40 d41, ((0 + b40 ≤ BC ∧ 0 + d41 ≤ BS) ∧ (gK g a0 = 8 ∧ (P_X9_not rs b40 d41 Xq a0 a1 g ι (fun r46 g43 ι44 => (∃ n9, P_X9_and_6 rs BC BS Xq Q n9 a0 a1 r46 g43 ι44 (0 + b40) (0 + d41))))))))
set_option maxHeartbeats 2000000 in
theorem w_X9_and_6 {rs : (Nat → Nat → (Nat → Nat → GT → S → Prop) → Nat → Int32 → GT → S → (Nat → GT → S → Prop) → Prop)} {F L : Nat} (hrec : ∀ (BC BS : Nat) (ad : Nat → Nat) (g : GT) (ι : S) (sz : Nat) (a0 : Nat) (a1 : Int32) (Xq : Nat → Nat → GT → S → Prop) (Q : Nat → GT → S → Prop), rs BC BS Xq a0 a1 g ι Q → CYq l yX9_expr cX9_expr 3 (.object "SpoonRow$Expr") ({ frames := F, cells := BC, slots := BS, locals := L } : Room) D dA ad g ι sz [pX a0, iX a1] Q Xq BC BS) (hlt : l.stackTraces = false) (hex : ∀ x ∈ c.exceptionTable.toList, False) {Xq : Nat → Nat → GT → S → Prop} {BC BS : Nat} {Q : Nat → GT → S → Prop} : ∀ (n : Nat) (x0 : Nat) (x1 : Int32) (x2 : Nat) (g : GT) (ι : S) (uc us : Nat) (ad : Nat → Nat) (H : Heap) (locs : List Loc) (ls : Array Slot), P_X9_and_6 rs BC BS Xq Q n x0 x1 x2 g ι uc us → CX p s m args c meth cX9_and 3 (some (.object "SpoonRow$Expr")) RX9 D dA ad A → PW D dA A s.heap ad (HS g ι) H locs → HA ad0 g0 ad g → LH ad ls 3 [(0, pX x0), (1, iX x1), (2, pX x2)] → WYq p l e ({ frames := F + 17, cells := BC, slots := BS, locals := L + 447 } : Room) s m args below meth c D dA ad0 g0 A Q Xq BC BS H locs (uc) (us) (F0 m 6 ls []) := by
  intro n
  induction n with
  | zero =>
    intro x0 x1 x2 g ι uc us ad H locs ls hF
    exact hF.elim
  | succ n ih =>
    intro x0 x1 x2 g ι uc us ad H locs ls hF X hP hag hl
    rw [P_X9_and_6] at hF
    refine ph_aload_n (n := 0) X hl dX9_and_6 rfl rfl ?_
    refine ph_ldcS (i := 13) (tx := "and") X (List.mem_of_getElem? (i := 41) rfl) dX9_and_7 ?_
    obtain ⟨hd1, hF⟩ := hF
    obtain ⟨hm5, hF⟩ := hF
    refine cg_callVi 7 [pX 27] X hP hm5 (met_X9_is l D dA ad g _ _ hF) (cwV 1 X.2.2.2.2.1 (lw_V q1289 q1291 qs26 q127 q1292) rfl rfl rfl (by decide +kernel) (by constructor <;> (dsimp only) <;> omega)) rfl hl (k8 := 0) (cs0 (k := 0)) (by decide) hd1 dX9_and_9 rfl (fun r2 ι3 H locs hF hP => ?_)
    refine lv_if_eq (tgt := 38) X.1 X.2.1 dX9_and_12 (by decide) (fun c38 => ?_) (fun c38 => ?_)
    · have hF := hF.1 c38
      refine ph_aload_n (n := 2) X hl dX9_and_38 rfl rfl ?_
      obtain ⟨hx6, hF⟩ := hF
      exact hy_aret X hP hag (Or.inl ⟨_, rfl⟩) hx6 hF hd1.1 hd1.2 dX9_and_39
    · have hF := hF.2 c38
      refine ph_aload_n (n := 0) X hl dX9_and_15 rfl rfl ?_
      obtain ⟨hx7, hF⟩ := hF
      obtain ⟨hx8, hF⟩ := hF
      obtain ⟨b9, d10, hF⟩ := hF
      obtain ⟨hd11, hF⟩ := hF
      refine hg_callVv 7 [] [] X hP hm5 (met_X9_go l D dA ad _ _ _ _ _ hF) (cwV 0 X.2.2.2.2.1 (lw_V q1182 q1184 qs23 q127 q1185) rfl rfl rfl (by decide +kernel) (by constructor <;> (dsimp only) <;> omega)) rfl hag hl (ltlp hx8 (ltli (ltlp hx7 ltln))) ltsn (k8 := 0) (cs0 (k := 0)) (by decide) hd11 dX9_and_16 rfl (fun ad g12 ι13 H locs hF X hP hag he14 hl => ?_)
      show WYq p l e ({ frames := F + 17, cells := BC, slots := BS, locals := L + 447 } : Room) s m args below meth c D dA ad0 g0 A Q Xq BC BS H locs (uc + b9) (us + d10) (F0 m 19 ls [])
      obtain ⟨hd17, hF⟩ := hF
      refine hg_new 11 [] X hP hag hl (ltlp (ltm hx8 he14) (ltli (ltlp (ltm hx7 he14) ltln))) ltsn in_X14 tyX14 tyX14_ok (by decide +kernel) q1422 q1423 q133 hd17 dX9_and_19 rfl hF (fun H ad g18 ι19 X hP hag he20 hk21 hl hF => ?_)
      show WYq p l e ({ frames := F + 17, cells := BC, slots := BS, locals := L + 447 } : Room) s m args below meth c D dA ad0 g0 A Q Xq BC BS H locs (uc + b9 + 1) (us + d10 + 3) (F0 m 22 ls [rv ad (200 + gN g12)])
      refine ph_dup_r X dX9_and_22 ?_
      refine lv_bipush (v := 38) X.1 X.2.1 dX9_and_23 (by decide) ?_
      refine ph_aload_n (n := 2) X hl dX9_and_25 rfl rfl ?_
      refine ph_aload_n (n := 0) X hl dX9_and_26 rfl rfl ?_
      refine ph_iload_n (n := 1) X hl dX9_and_27 rfl rfl ?_
      obtain ⟨b22, d23, hF⟩ := hF
      obtain ⟨hd24, hF⟩ := hF
      obtain ⟨hm37, hF⟩ := hF
      have hl : LH ad ls 3 [(0, pX x0), (1, iX x1)] := lh_sub hl [0, 1] rfl
      refine hy_callVq 7 [iX x1] [pX x2, iX 38, pX (200 + gN g12), pX (200 + gN g12)] X hP hex hm37 (met_X9_not l D dA ad _ _ hrec hlt _ _ _ hF) (cwV 1 X.2.2.2.2.1 (lw_V q1343 q1345 qs31 q127 q1346) rfl rfl rfl (by decide +kernel) (by constructor <;> (dsimp only) <;> omega)) rfl hag hl (ltlp (ltm (ltm hx8 he14) (Nat.le_of_succ_le he20)) (ltli ltln)) (ltsp (ltm (ltm hx7 he14) (Nat.le_of_succ_le he20)) (ltsi (ltsp (ltw he20) (ltsp (ltw he20) ltsn)))) (k8 := 4) (csr (csi (csr (csr (cs0 (k := 0)))))) (by decide) hd24 hd24.1 hd24.2 dX9_and_28 rfl (fun r28 ad g25 ι26 H locs hF hv29 X hP hag he27 hl => ?_)
      show WYq p l e ({ frames := F + 17, cells := BC, slots := BS, locals := L + 447 } : Room) s m args below meth c D dA ad0 g0 A Q Xq BC BS H locs (uc + b9 + 1 + b22) (us + d10 + 3 + d23) (F0 m 31 ls [rv ad r28, rv ad x2, .int 38, rv ad (200 + gN g12), rv ad (200 + gN g12)])
      obtain ⟨hd30, hF⟩ := hF
      obtain ⟨hm36, hF⟩ := hF
      refine hg_callI [iX 38, pX x2, pX r28] [pX (200 + gN g12)] X hP (cg_nz hP hm36 (by decide)) (met_X14_init l D dA ad _ _ _ _ _ hF) (cwI 3 X.2.2.2.2.1 (lw_meth q1426) rfl rfl rfl (X.2.2.2.2.1 _ q133) (X.2.2.2.2.1 _ q1424) (X.2.2.2.2.1 _ q1425) rfl (by decide +kernel) (by constructor <;> (dsimp only) <;> omega)) rfl hag hl (ltlp (ltm (ltm (ltm hx8 he14) (Nat.le_of_succ_le he20)) he27) (ltli ltln)) (ltsp (ltm (ltw he20) he27) ltsn) (k8 := 1) (csr (cs0 (k := 0))) (by decide) hd30 dX9_and_31 rfl (fun ad g31 ι32 H locs hF X hP hag he33 hl => ?_)
      show WYq p l e ({ frames := F + 17, cells := BC, slots := BS, locals := L + 447 } : Room) s m args below meth c D dA ad0 g0 A Q Xq BC BS H locs (uc + b9 + 1 + b22) (us + d10 + 3 + d23) (F0 m 34 ls [rv ad (200 + gN g12)])
      refine ph_astore_n X hl dX9_and_34 rfl (by decide) rfl (fun ls hl => ?_)
      refine lv_goto (tgt := 6) X.1 X.2.1 dX9_and_35 (by decide) ?_
      exact ih _ _ _ _ _ _ _ _ _ _ _ hF X hP hag (lh_sub hl [1, 2, 0] rfl)
set_option maxHeartbeats 2000000 in
theorem we_X9_and {rs : (Nat → Nat → (Nat → Nat → GT → S → Prop) → Nat → Int32 → GT → S → (Nat → GT → S → Prop) → Prop)} {F L : Nat} (hrec : ∀ (BC BS : Nat) (ad : Nat → Nat) (g : GT) (ι : S) (sz : Nat) (a0 : Nat) (a1 : Int32) (Xq : Nat → Nat → GT → S → Prop) (Q : Nat → GT → S → Prop), rs BC BS Xq a0 a1 g ι Q → CYq l yX9_expr cX9_expr 3 (.object "SpoonRow$Expr") ({ frames := F, cells := BC, slots := BS, locals := L } : Room) D dA ad g ι sz [pX a0, iX a1] Q Xq BC BS) (hlt : l.stackTraces = false) (hex : ∀ x ∈ c.exceptionTable.toList, False) {Xq : Nat → Nat → GT → S → Prop} {BC BS : Nat} {Q : Nat → GT → S → Prop} : ∀ (a0 : Nat) (a1 : Int32) (g : GT) (ι : S) (ad : Nat → Nat) (H : Heap) (locs : List Loc) (ls : Array Slot), P_X9_and rs BC BS Xq a0 a1 g ι Q → CX p s m args c meth cX9_and 3 (some (.object "SpoonRow$Expr")) RX9 D dA ad A → PW D dA A s.heap ad (HS g ι) H locs → HA ad0 g0 ad g → LH ad ls 3 [(0, pX a0), (1, iX a1)] → WYq p l e ({ frames := F + 17, cells := BC, slots := BS, locals := L + 447 } : Room) s m args below meth c D dA ad0 g0 A Q Xq BC BS H locs (0) (0) (F0 m 0 ls []) := by
  intro a0 a1 g ι ad H locs ls hF X hP hag hl
  unfold P_X9_and at hF
  refine ph_aload_n (n := 0) X hl dX9_and_0 rfl rfl ?_
  refine ph_iload_n (n := 1) X hl dX9_and_1 rfl rfl ?_
  obtain ⟨hx39, hF⟩ := hF
  obtain ⟨b40, d41, hF⟩ := hF
  obtain ⟨hd42, hF⟩ := hF
  obtain ⟨hm48, hF⟩ := hF
  refine hy_callVq 7 [iX a1] [] X hP hex hm48 (met_X9_not l D dA ad _ _ hrec hlt _ _ _ hF) (cwV 1 X.2.2.2.2.1 (lw_V q1343 q1345 qs31 q127 q1346) rfl rfl rfl (by decide +kernel) (by constructor <;> (dsimp only) <;> omega)) rfl hag hl (ltlp hx39 (ltli ltln)) ltsn (k8 := 0) (cs0 (k := 0)) (by decide) hd42 hd42.1 hd42.2 dX9_and_2 rfl (fun r46 ad g43 ι44 H locs hF hv47 X hP hag he45 hl => ?_)
  show WYq p l e ({ frames := F + 17, cells := BC, slots := BS, locals := L + 447 } : Room) s m args below meth c D dA ad0 g0 A Q Xq BC BS H locs (0 + b40) (0 + d41) (F0 m 5 ls [rv ad r46])
  refine ph_astore_n X hl dX9_and_5 rfl (by decide) rfl (fun ls hl => ?_)
  obtain ⟨n9, hF⟩ := hF
  exact w_X9_and_6 hrec hlt hex n9 _ _ _ _ _ _ _ _ _ _ _ hF X hP hag (lh_sub hl [1, 2, 0] rfl)
set_option maxHeartbeats 2000000 in
theorem met_X9_and {rs : (Nat → Nat → (Nat → Nat → GT → S → Prop) → Nat → Int32 → GT → S → (Nat → GT → S → Prop) → Prop)} {F L : Nat} (l : Launch) (D : va_G) (dA : Nat → ClassId) (ad : Nat → Nat) (BC BS : Nat) (hrec : ∀ (BC BS : Nat) (ad : Nat → Nat) (g : GT) (ι : S) (sz : Nat) (a0 : Nat) (a1 : Int32) (Xq : Nat → Nat → GT → S → Prop) (Q : Nat → GT → S → Prop), rs BC BS Xq a0 a1 g ι Q → CYq l yX9_expr cX9_expr 3 (.object "SpoonRow$Expr") ({ frames := F, cells := BC, slots := BS, locals := L } : Room) D dA ad g ι sz [pX a0, iX a1] Q Xq BC BS) (hlt : l.stackTraces = false) {Xq : Nat → Nat → GT → S → Prop} (g : GT) (ι : S) (sz : Nat) {a0 : Nat} {a1 : Int32} {Q : Nat → GT → S → Prop} (hF : P_X9_and rs BC BS Xq a0 a1 g ι Q) : CYq l yX9_and cX9_and 3 (.object "SpoonRow$Expr") ({ frames := F + 17, cells := BC, slots := BS, locals := L + 447 } : Room) D dA ad g ι sz [pX a0, iX a1] Q Xq BC BS := by
  refine yg_enter [pX a0, iX a1] (Qc := fun A => HPq D dA ad g A Q) (XC := fun A => XHC D dA ad g A Xq) (by decide +kernel) (Nat.le_of_ble_eq_true rfl) ?_
  intro p e s m args below meth c A ls X hP hl hex
  exact we_X9_and hrec hlt hex _ _ _ _ _ _ _ _ hF X hP HA.rf hl
def P_X9_expr_51 (rs : (Nat → Nat → (Nat → Nat → GT → S → Prop) → Nat → Int32 → GT → S → (Nat → GT → S → Prop) → Prop)) (BC BS : Nat) (Xq : Nat → Nat → GT → S → Prop) (Q : Nat → GT → S → Prop) : Nat → Nat → Int32 → Nat → GT → S → Nat → Nat → Prop
  | 0, _, _, _, _, _, _, _ => False
  | n + 1, x0, x1, x2, g, ι, uc, us => ((uc ≤ BC ∧ us ≤ BS) ∧ (gK g x0 = 8 ∧ (P_X9_is g x0 25 ι (fun r2 ι3 => ((r2 = 0 → (x2 < 200 + gN g ∧ (Q x2 g ι3))) ∧ (¬ r2 = 0 → (x2 < 200 + gN g ∧ (x0 < 200 + gN g ∧ (∃ b9 d10, ((uc + b9 ≤ BC ∧ us + d10 ≤ BS) ∧ (P_X9_go b9 d10 x0 g ι3 (fun g12 ι13 => ((uc + b9 + 1 ≤ BC ∧ us + d10 + 3 ≤ BS) ∧ (∀ g18 ι19, g18 = newg g12 12 0 → ι19 = newi g12 ι13 → (∃ b22 d23, ((uc + b9 + 1 + b22 ≤ BC ∧ us + d10 + 3 + d23 ≤ BS) ∧ (gK g18 x0 = 8 ∧ (P_X9_and rs b22 d23 Xq x0 x1 g18 ι19 (fun r28 g25 ι26 => ((uc + b9 + 1 + b22 ≤ BC ∧ us + d10 + 3 + d23 ≤ BS) ∧ (gK g25 (200 + gN g12) = 12 ∧ (P_X14_init 0 0 (200 + gN g12) 124 x2 r28 g25 ι26 (fun g31 ι32 => (P_X9_expr_51 rs BC BS Xq Q  n x0 x1 (200 + gN g12) g31 ι32 (uc + b9 + 1 + b22) (us + d10 + 3 + d23)))))))))))))))))))))))))
def P_X9_expr (rs : (Nat → Nat → (Nat → Nat → GT → S → Prop) → Nat → Int32 → GT → S → (Nat → GT → S → Prop) → Prop)) (BC BS : Nat) (Xq : Nat → Nat → GT → S → Prop) (a0 : Nat) (a1 : Int32) (g : GT) (ι : S) (Q : Nat → GT → S → Prop) : Prop := ((a1 < 6 → (a0 < 200 + gN g ∧ (∃ b40 d41, ((0 + b40 ≤ BC ∧ 0 + d41 ≤ BS) ∧ (gK g a0 = 8 ∧ (P_X9_and rs b40 d41 Xq a0 a1 g ι (fun r46 g43 ι44 => (∃ n9, P_X9_expr_51 rs BC BS Xq Q n9 a0 a1 r46 g43 ι44 (0 + b40) (0 + d41))))))))) ∧ (¬ a1 < 6 → (gK g a0 = 8 ∧ ((100 ≤ (gR g a0 6) ∧ (gR g a0 6) < 105) ∧ (((gR g a0 6) = 101 → (a0 < 200 + gN g ∧ (∃ b54 d55, ((0 + b54 ≤ BC ∧ 0 + d55 ≤ BS) ∧ (P_X9_check b54 d55 Xq a0 0 2 g ι (fun g57 ι58 => (∃ b62 d63, ((0 + b54 + b62 ≤ BC ∧ 0 + d55 + d63 ≤ BS) ∧ (gK g57 a0 = 8 ∧ (P_X9_and rs b62 d63 Xq a0 a1 g57 ι58 (fun r68 g65 ι66 => (∃ n9, P_X9_expr_51 rs BC BS Xq Q n9 a0 a1 r68 g65 ι66 (0 + b54 + b62) (0 + d55 + d63))))))))))))) ∧ (¬ (gR g a0 6) = 101 → (((gR g a0 6) = 100 → (a0 < 200 + gN g ∧ (∃ b74 d75, ((0 + b74 ≤ BC ∧ 0 + d75 ≤ BS) ∧ (P_X9_check b74 d75 Xq a0 0 2 g ι (fun g77 ι78 => (∃ b82 d83, ((0 + b74 + b82 ≤ BC ∧ 0 + d75 + d83 ≤ BS) ∧ (gK g77 a0 = 8 ∧ (P_X9_and rs b82 d83 Xq a0 a1 g77 ι78 (fun r88 g85 ι86 => (∃ n9, P_X9_expr_51 rs BC BS Xq Q n9 a0 a1 r88 g85 ι86 (0 + b74 + b82) (0 + d75 + d83))))))))))))) ∧ (¬ (gR g a0 6) = 100 → (P_X9_is g a0 23 ι (fun r91 ι92 => ((¬ r91 = 0 → (a0 < 200 + gN g ∧ (∃ b95 d96, ((0 + b95 ≤ BC ∧ 0 + d96 ≤ BS) ∧ (P_X9_check b95 d96 Xq a0 0 2 g ι92 (fun g98 ι99 => (∃ b103 d104, ((0 + b95 + b103 ≤ BC ∧ 0 + d96 + d104 ≤ BS) ∧ (gK g98 a0 = 8 ∧ (P_X9_and rs b103 d104 Xq a0 a1 g98 ι99 (fun r109 g106 ι107 => (∃ n9, P_X9_expr_51 rs BC BS Xq Q n9 a0 a1 r109 g106 ι107 (0 + b95 + b103) (0 + d96 + d104))))))))))))) ∧ (r91 = 0 → (a0 < 200 + gN g ∧ (∃ b113 d114, ((0 + b113 ≤ BC ∧ 0 + d114 ≤ BS) ∧ (P_X9_check b113 d114 Xq a0 1 2 g ι92 (fun g116 ι117 => (∃ b121 d122, ((0 + b113 + b121 ≤ BC ∧ 0 + d114 + d122 ≤ BS) ∧ (gK g116 a0 = 8 ∧ (P_X9_and rs b121 d122 Xq a0 a1 g116 ι117 (fun r127 g124 ι125 => (∃ n9, P_X9_expr_51 rs BC BS Xq Q n9 a0 a1 r127 g124 ι125 (0 + b113 + b121) (0 + d114 + d122))))))))))))))))))))))))
set_option maxHeartbeats 2000000 in
theorem w_X9_expr_51 {rs : (Nat → Nat → (Nat → Nat → GT → S → Prop) → Nat → Int32 → GT → S → (Nat → GT → S → Prop) → Prop)} {F L : Nat} (hrec : ∀ (BC BS : Nat) (ad : Nat → Nat) (g : GT) (ι : S) (sz : Nat) (a0 : Nat) (a1 : Int32) (Xq : Nat → Nat → GT → S → Prop) (Q : Nat → GT → S → Prop), rs BC BS Xq a0 a1 g ι Q → CYq l yX9_expr cX9_expr 3 (.object "SpoonRow$Expr") ({ frames := F, cells := BC, slots := BS, locals := L } : Room) D dA ad g ι sz [pX a0, iX a1] Q Xq BC BS) (hlt : l.stackTraces = false) (hex : ∀ x ∈ c.exceptionTable.toList, False) {Xq : Nat → Nat → GT → S → Prop} {BC BS : Nat} {Q : Nat → GT → S → Prop} : ∀ (n : Nat) (x0 : Nat) (x1 : Int32) (x2 : Nat) (g : GT) (ι : S) (uc us : Nat) (ad : Nat → Nat) (H : Heap) (locs : List Loc) (ls : Array Slot), P_X9_expr_51 rs BC BS Xq Q n x0 x1 x2 g ι uc us → CX p s m args c meth cX9_expr 3 (some (.object "SpoonRow$Expr")) RX9 D dA ad A → PW D dA A s.heap ad (HS g ι) H locs → HA ad0 g0 ad g → LH ad ls 3 [(0, pX x0), (1, iX x1), (2, pX x2)] → WYq p l e ({ frames := F + 18, cells := BC, slots := BS, locals := L + 487 } : Room) s m args below meth c D dA ad0 g0 A Q Xq BC BS H locs (uc) (us) (F0 m 51 ls []) := by
  intro n
  induction n with
  | zero =>
    intro x0 x1 x2 g ι uc us ad H locs ls hF
    exact hF.elim
  | succ n ih =>
    intro x0 x1 x2 g ι uc us ad H locs ls hF X hP hag hl
    rw [P_X9_expr_51] at hF
    refine ph_aload_n (n := 0) X hl dX9_expr_51 rfl rfl ?_
    refine ph_ldcS (i := 12) (tx := "or") X (List.mem_of_getElem? (i := 42) rfl) dX9_expr_52 ?_
    obtain ⟨hd1, hF⟩ := hF
    obtain ⟨hm5, hF⟩ := hF
    refine cg_callVi 7 [pX 25] X hP hm5 (met_X9_is l D dA ad g _ _ hF) (cwV 1 X.2.2.2.2.1 (lw_V q1289 q1291 qs26 q127 q1292) rfl rfl rfl (by decide +kernel) (by constructor <;> (dsimp only) <;> omega)) rfl hl (k8 := 0) (cs0 (k := 0)) (by decide) hd1 dX9_expr_54 rfl (fun r2 ι3 H locs hF hP => ?_)
    refine lv_if_eq (tgt := 83) X.1 X.2.1 dX9_expr_57 (by decide) (fun c38 => ?_) (fun c38 => ?_)
    · have hF := hF.1 c38
      refine ph_aload_n (n := 2) X hl dX9_expr_83 rfl rfl ?_
      obtain ⟨hx6, hF⟩ := hF
      exact hy_aret X hP hag (Or.inl ⟨_, rfl⟩) hx6 hF hd1.1 hd1.2 dX9_expr_84
    · have hF := hF.2 c38
      refine ph_aload_n (n := 0) X hl dX9_expr_60 rfl rfl ?_
      obtain ⟨hx7, hF⟩ := hF
      obtain ⟨hx8, hF⟩ := hF
      obtain ⟨b9, d10, hF⟩ := hF
      obtain ⟨hd11, hF⟩ := hF
      refine hg_callVv 7 [] [] X hP hm5 (met_X9_go l D dA ad _ _ _ _ _ hF) (cwV 0 X.2.2.2.2.1 (lw_V q1182 q1184 qs23 q127 q1185) rfl rfl rfl (by decide +kernel) (by constructor <;> (dsimp only) <;> omega)) rfl hag hl (ltlp hx8 (ltli (ltlp hx7 ltln))) ltsn (k8 := 0) (cs0 (k := 0)) (by decide) hd11 dX9_expr_61 rfl (fun ad g12 ι13 H locs hF X hP hag he14 hl => ?_)
      show WYq p l e ({ frames := F + 18, cells := BC, slots := BS, locals := L + 487 } : Room) s m args below meth c D dA ad0 g0 A Q Xq BC BS H locs (uc + b9) (us + d10) (F0 m 64 ls [])
      obtain ⟨hd17, hF⟩ := hF
      refine hg_new 11 [] X hP hag hl (ltlp (ltm hx8 he14) (ltli (ltlp (ltm hx7 he14) ltln))) ltsn in_X14 tyX14 tyX14_ok (by decide +kernel) q1422 q1423 q133 hd17 dX9_expr_64 rfl hF (fun H ad g18 ι19 X hP hag he20 hk21 hl hF => ?_)
      show WYq p l e ({ frames := F + 18, cells := BC, slots := BS, locals := L + 487 } : Room) s m args below meth c D dA ad0 g0 A Q Xq BC BS H locs (uc + b9 + 1) (us + d10 + 3) (F0 m 67 ls [rv ad (200 + gN g12)])
      refine ph_dup_r X dX9_expr_67 ?_
      refine lv_bipush (v := 124) X.1 X.2.1 dX9_expr_68 (by decide) ?_
      refine ph_aload_n (n := 2) X hl dX9_expr_70 rfl rfl ?_
      refine ph_aload_n (n := 0) X hl dX9_expr_71 rfl rfl ?_
      refine ph_iload_n (n := 1) X hl dX9_expr_72 rfl rfl ?_
      obtain ⟨b22, d23, hF⟩ := hF
      obtain ⟨hd24, hF⟩ := hF
      obtain ⟨hm37, hF⟩ := hF
      have hl : LH ad ls 3 [(0, pX x0), (1, iX x1)] := lh_sub hl [0, 1] rfl
      refine hy_callVq 7 [iX x1] [pX x2, iX 124, pX (200 + gN g12), pX (200 + gN g12)] X hP hex hm37 (met_X9_and l D dA ad _ _ hrec hlt _ _ _ hF) (cwV 1 X.2.2.2.2.1 (lw_V q1339 q1341 qs30 q127 q1342) rfl rfl rfl (by decide +kernel) (by constructor <;> (dsimp only) <;> omega)) rfl hag hl (ltlp (ltm (ltm hx8 he14) (Nat.le_of_succ_le he20)) (ltli ltln)) (ltsp (ltm (ltm hx7 he14) (Nat.le_of_succ_le he20)) (ltsi (ltsp (ltw he20) (ltsp (ltw he20) ltsn)))) (k8 := 4) (csr (csi (csr (csr (cs0 (k := 0)))))) (by decide) hd24 hd24.1 hd24.2 dX9_expr_73 rfl (fun r28 ad g25 ι26 H locs hF hv29 X hP hag he27 hl => ?_)
      show WYq p l e ({ frames := F + 18, cells := BC, slots := BS, locals := L + 487 } : Room) s m args below meth c D dA ad0 g0 A Q Xq BC BS H locs (uc + b9 + 1 + b22) (us + d10 + 3 + d23) (F0 m 76 ls [rv ad r28, rv ad x2, .int 124, rv ad (200 + gN g12), rv ad (200 + gN g12)])
      obtain ⟨hd30, hF⟩ := hF
      obtain ⟨hm36, hF⟩ := hF
      refine hg_callI [iX 124, pX x2, pX r28] [pX (200 + gN g12)] X hP (cg_nz hP hm36 (by decide)) (met_X14_init l D dA ad _ _ _ _ _ hF) (cwI 3 X.2.2.2.2.1 (lw_meth q1426) rfl rfl rfl (X.2.2.2.2.1 _ q133) (X.2.2.2.2.1 _ q1424) (X.2.2.2.2.1 _ q1425) rfl (by decide +kernel) (by constructor <;> (dsimp only) <;> omega)) rfl hag hl (ltlp (ltm (ltm (ltm hx8 he14) (Nat.le_of_succ_le he20)) he27) (ltli ltln)) (ltsp (ltm (ltw he20) he27) ltsn) (k8 := 1) (csr (cs0 (k := 0))) (by decide) hd30 dX9_expr_76 rfl (fun ad g31 ι32 H locs hF X hP hag he33 hl => ?_)
      show WYq p l e ({ frames := F + 18, cells := BC, slots := BS, locals := L + 487 } : Room) s m args below meth c D dA ad0 g0 A Q Xq BC BS H locs (uc + b9 + 1 + b22) (us + d10 + 3 + d23) (F0 m 79 ls [rv ad (200 + gN g12)])
      refine ph_astore_n X hl dX9_expr_79 rfl (by decide) rfl (fun ls hl => ?_)
      refine lv_goto (tgt := 51) X.1 X.2.1 dX9_expr_80 (by decide) ?_
      exact ih _ _ _ _ _ _ _ _ _ _ _ hF X hP hag (lh_sub hl [1, 2, 0] rfl)
set_option maxHeartbeats 2000000 in
theorem we_X9_expr {rs : (Nat → Nat → (Nat → Nat → GT → S → Prop) → Nat → Int32 → GT → S → (Nat → GT → S → Prop) → Prop)} {F L : Nat} (hrec : ∀ (BC BS : Nat) (ad : Nat → Nat) (g : GT) (ι : S) (sz : Nat) (a0 : Nat) (a1 : Int32) (Xq : Nat → Nat → GT → S → Prop) (Q : Nat → GT → S → Prop), rs BC BS Xq a0 a1 g ι Q → CYq l yX9_expr cX9_expr 3 (.object "SpoonRow$Expr") ({ frames := F, cells := BC, slots := BS, locals := L } : Room) D dA ad g ι sz [pX a0, iX a1] Q Xq BC BS) (hlt : l.stackTraces = false) (hex : ∀ x ∈ c.exceptionTable.toList, False) {Xq : Nat → Nat → GT → S → Prop} {BC BS : Nat} {Q : Nat → GT → S → Prop} : ∀ (a0 : Nat) (a1 : Int32) (g : GT) (ι : S) (ad : Nat → Nat) (H : Heap) (locs : List Loc) (ls : Array Slot), P_X9_expr rs BC BS Xq a0 a1 g ι Q → CX p s m args c meth cX9_expr 3 (some (.object "SpoonRow$Expr")) RX9 D dA ad A → PW D dA A s.heap ad (HS g ι) H locs → HA ad0 g0 ad g → LH ad ls 3 [(0, pX a0), (1, iX a1)] → WYq p l e ({ frames := F + 18, cells := BC, slots := BS, locals := L + 487 } : Room) s m args below meth c D dA ad0 g0 A Q Xq BC BS H locs (0) (0) (F0 m 0 ls []) := by
  intro a0 a1 g ι ad H locs ls hF X hP hag hl
  unfold P_X9_expr at hF
  refine ph_iload_n (n := 1) X hl dX9_expr_0 rfl rfl ?_
  refine lv_bipush (v := 6) X.1 X.2.1 dX9_expr_1 (by decide) ?_
  refine lv_icmp_lt (tgt := 45) X.1 X.2.1 dX9_expr_3 (by decide) (fun c131 => ?_) (fun c131 => ?_)
  · have hF := hF.1 c131
    refine ph_aload_n (n := 0) X hl dX9_expr_45 rfl rfl ?_
    refine ph_iload_n (n := 1) X hl dX9_expr_46 rfl rfl ?_
    obtain ⟨hx39, hF⟩ := hF
    obtain ⟨b40, d41, hF⟩ := hF
    obtain ⟨hd42, hF⟩ := hF
    obtain ⟨hm48, hF⟩ := hF
    refine hy_callVq 7 [iX a1] [] X hP hex hm48 (met_X9_and l D dA ad _ _ hrec hlt _ _ _ hF) (cwV 1 X.2.2.2.2.1 (lw_V q1339 q1341 qs30 q127 q1342) rfl rfl rfl (by decide +kernel) (by constructor <;> (dsimp only) <;> omega)) rfl hag hl (ltlp hx39 (ltli ltln)) ltsn (k8 := 0) (cs0 (k := 0)) (by decide) hd42 hd42.1 hd42.2 dX9_expr_47 rfl (fun r46 ad g43 ι44 H locs hF hv47 X hP hag he45 hl => ?_)
    show WYq p l e ({ frames := F + 18, cells := BC, slots := BS, locals := L + 487 } : Room) s m args below meth c D dA ad0 g0 A Q Xq BC BS H locs (0 + b40) (0 + d41) (F0 m 50 ls [rv ad r46])
    refine ph_astore_n X hl dX9_expr_50 rfl (by decide) rfl (fun ls hl => ?_)
    obtain ⟨n9, hF⟩ := hF
    exact w_X9_expr_51 hrec hlt hex n9 _ _ _ _ _ _ _ _ _ _ _ hF X hP hag (lh_sub hl [1, 2, 0] rfl)
  · have hF := hF.2 c131
    refine ph_aload_n (n := 0) X hl dX9_expr_6 rfl rfl ?_
    refine ph_aload_n (n := 0) X hl dX9_expr_7 rfl rfl ?_
    obtain ⟨hm49, hF⟩ := hF
    have hv50 := gR_lt hP a0 6
    refine cg_getr 7 6 X in_X9 hP hm49 q1255 dX9_expr_8 ?_
    refine cg_getsS (k := 1) X hP (by decide) rfl q1226 dX9_expr_11 ?_
    obtain ⟨hm51, hF⟩ := hF
    refine cg_acmp_eq (tgt := 40) X (by have := hm51; omega) (by have := (show 100 ≤ 101 ∧ 101 < 105 by decide); omega) (sort_inj X hm51 (show 100 ≤ 101 ∧ 101 < 105 by decide)) dX9_expr_14 (by decide) (fun c52 => ?_) (fun c52 => ?_)
    · have hF := hF.1 c52
      refine lv_iconst (v := 0) X.1 X.2.1 dX9_expr_40 (by decide) ?_
      refine lv_iconst (v := 2) X.1 X.2.1 dX9_expr_41 (by decide) ?_
      obtain ⟨hx53, hF⟩ := hF
      obtain ⟨b54, d55, hF⟩ := hF
      obtain ⟨hd56, hF⟩ := hF
      refine hy_callVv 7 [iX 0, iX 2] [] X hP hex hm49 (met_X9_check l D dA ad _ _ hlt _ _ _ hF) (cwV 2 X.2.2.2.2.1 (lw_V q1300 q1302 qs27 q127 q1303) rfl rfl rfl (by decide +kernel) (by constructor <;> (dsimp only) <;> omega)) rfl hag hl (ltlp hx53 (ltli ltln)) ltsn (k8 := 0) (cs0 (k := 0)) (by decide) hd56 hd56.1 hd56.2 dX9_expr_42 rfl (fun ad g57 ι58 H locs hF X hP hag he59 hl => ?_)
      show WYq p l e ({ frames := F + 18, cells := BC, slots := BS, locals := L + 487 } : Room) s m args below meth c D dA ad0 g0 A Q Xq BC BS H locs (0 + b54) (0 + d55) (F0 m 45 ls [])
      refine ph_aload_n (n := 0) X hl dX9_expr_45 rfl rfl ?_
      refine ph_iload_n (n := 1) X hl dX9_expr_46 rfl rfl ?_
      obtain ⟨b62, d63, hF⟩ := hF
      obtain ⟨hd64, hF⟩ := hF
      obtain ⟨hm70, hF⟩ := hF
      refine hy_callVq 7 [iX a1] [] X hP hex hm70 (met_X9_and l D dA ad _ _ hrec hlt _ _ _ hF) (cwV 1 X.2.2.2.2.1 (lw_V q1339 q1341 qs30 q127 q1342) rfl rfl rfl (by decide +kernel) (by constructor <;> (dsimp only) <;> omega)) rfl hag hl (ltlp (ltm hx53 he59) (ltli ltln)) ltsn (k8 := 0) (cs0 (k := 0)) (by decide) hd64 hd64.1 hd64.2 dX9_expr_47 rfl (fun r68 ad g65 ι66 H locs hF hv69 X hP hag he67 hl => ?_)
      show WYq p l e ({ frames := F + 18, cells := BC, slots := BS, locals := L + 487 } : Room) s m args below meth c D dA ad0 g0 A Q Xq BC BS H locs (0 + b54 + b62) (0 + d55 + d63) (F0 m 50 ls [rv ad r68])
      refine ph_astore_n X hl dX9_expr_50 rfl (by decide) rfl (fun ls hl => ?_)
      obtain ⟨n9, hF⟩ := hF
      exact w_X9_expr_51 hrec hlt hex n9 _ _ _ _ _ _ _ _ _ _ _ hF X hP hag (lh_sub hl [1, 2, 0] rfl)
    · have hF := hF.2 c52
      refine ph_aload_n (n := 0) X hl dX9_expr_17 rfl rfl ?_
      have hv71 := gR_lt hP a0 6
      refine cg_getr 7 6 X in_X9 hP hm49 q1255 dX9_expr_18 ?_
      refine cg_getsS (k := 0) X hP (by decide) rfl q1221 dX9_expr_21 ?_
      refine cg_acmp_eq (tgt := 40) X (by have := hm51; omega) (by have := (show 100 ≤ 100 ∧ 100 < 105 by decide); omega) (sort_inj X hm51 (show 100 ≤ 100 ∧ 100 < 105 by decide)) dX9_expr_24 (by decide) (fun c72 => ?_) (fun c72 => ?_)
      · have hF := hF.1 c72
        refine lv_iconst (v := 0) X.1 X.2.1 dX9_expr_40 (by decide) ?_
        refine lv_iconst (v := 2) X.1 X.2.1 dX9_expr_41 (by decide) ?_
        obtain ⟨hx73, hF⟩ := hF
        obtain ⟨b74, d75, hF⟩ := hF
        obtain ⟨hd76, hF⟩ := hF
        refine hy_callVv 7 [iX 0, iX 2] [] X hP hex hm49 (met_X9_check l D dA ad _ _ hlt _ _ _ hF) (cwV 2 X.2.2.2.2.1 (lw_V q1300 q1302 qs27 q127 q1303) rfl rfl rfl (by decide +kernel) (by constructor <;> (dsimp only) <;> omega)) rfl hag hl (ltlp hx73 (ltli ltln)) ltsn (k8 := 0) (cs0 (k := 0)) (by decide) hd76 hd76.1 hd76.2 dX9_expr_42 rfl (fun ad g77 ι78 H locs hF X hP hag he79 hl => ?_)
        show WYq p l e ({ frames := F + 18, cells := BC, slots := BS, locals := L + 487 } : Room) s m args below meth c D dA ad0 g0 A Q Xq BC BS H locs (0 + b74) (0 + d75) (F0 m 45 ls [])
        refine ph_aload_n (n := 0) X hl dX9_expr_45 rfl rfl ?_
        refine ph_iload_n (n := 1) X hl dX9_expr_46 rfl rfl ?_
        obtain ⟨b82, d83, hF⟩ := hF
        obtain ⟨hd84, hF⟩ := hF
        obtain ⟨hm90, hF⟩ := hF
        refine hy_callVq 7 [iX a1] [] X hP hex hm90 (met_X9_and l D dA ad _ _ hrec hlt _ _ _ hF) (cwV 1 X.2.2.2.2.1 (lw_V q1339 q1341 qs30 q127 q1342) rfl rfl rfl (by decide +kernel) (by constructor <;> (dsimp only) <;> omega)) rfl hag hl (ltlp (ltm hx73 he79) (ltli ltln)) ltsn (k8 := 0) (cs0 (k := 0)) (by decide) hd84 hd84.1 hd84.2 dX9_expr_47 rfl (fun r88 ad g85 ι86 H locs hF hv89 X hP hag he87 hl => ?_)
        show WYq p l e ({ frames := F + 18, cells := BC, slots := BS, locals := L + 487 } : Room) s m args below meth c D dA ad0 g0 A Q Xq BC BS H locs (0 + b74 + b82) (0 + d75 + d83) (F0 m 50 ls [rv ad r88])
        refine ph_astore_n X hl dX9_expr_50 rfl (by decide) rfl (fun ls hl => ?_)
        obtain ⟨n9, hF⟩ := hF
        exact w_X9_expr_51 hrec hlt hex n9 _ _ _ _ _ _ _ _ _ _ _ hF X hP hag (lh_sub hl [1, 2, 0] rfl)
      · have hF := hF.2 c72
        refine ph_aload_n (n := 0) X hl dX9_expr_27 rfl rfl ?_
        refine ph_ldcS (i := 11) (tx := "(") X (List.mem_of_getElem? (i := 25) rfl) dX9_expr_28 ?_
        refine cg_callVi 7 [pX 23] X hP hm49 (met_X9_is l D dA ad g _ _ hF) (cwV 1 X.2.2.2.2.1 (lw_V q1289 q1291 qs26 q127 q1292) rfl rfl rfl (by decide +kernel) (by constructor <;> (dsimp only) <;> omega)) rfl hl (k8 := 1) (csr (cs0 (k := 0))) (by decide) ⟨Nat.zero_le _, Nat.zero_le _⟩ dX9_expr_30 rfl (fun r91 ι92 H locs hF hP => ?_)
        refine lv_if_ne (tgt := 40) X.1 X.2.1 dX9_expr_33 (by decide) (fun c130 => ?_) (fun c130 => ?_)
        · have hF := hF.1 c130
          refine lv_iconst (v := 0) X.1 X.2.1 dX9_expr_40 (by decide) ?_
          refine lv_iconst (v := 2) X.1 X.2.1 dX9_expr_41 (by decide) ?_
          obtain ⟨hx94, hF⟩ := hF
          obtain ⟨b95, d96, hF⟩ := hF
          obtain ⟨hd97, hF⟩ := hF
          refine hy_callVv 7 [iX 0, iX 2] [] X hP hex hm49 (met_X9_check l D dA ad _ _ hlt _ _ _ hF) (cwV 2 X.2.2.2.2.1 (lw_V q1300 q1302 qs27 q127 q1303) rfl rfl rfl (by decide +kernel) (by constructor <;> (dsimp only) <;> omega)) rfl hag hl (ltlp hx94 (ltli ltln)) ltsn (k8 := 0) (cs0 (k := 0)) (by decide) hd97 hd97.1 hd97.2 dX9_expr_42 rfl (fun ad g98 ι99 H locs hF X hP hag he100 hl => ?_)
          show WYq p l e ({ frames := F + 18, cells := BC, slots := BS, locals := L + 487 } : Room) s m args below meth c D dA ad0 g0 A Q Xq BC BS H locs (0 + b95) (0 + d96) (F0 m 45 ls [])
          refine ph_aload_n (n := 0) X hl dX9_expr_45 rfl rfl ?_
          refine ph_iload_n (n := 1) X hl dX9_expr_46 rfl rfl ?_
          obtain ⟨b103, d104, hF⟩ := hF
          obtain ⟨hd105, hF⟩ := hF
          obtain ⟨hm111, hF⟩ := hF
          refine hy_callVq 7 [iX a1] [] X hP hex hm111 (met_X9_and l D dA ad _ _ hrec hlt _ _ _ hF) (cwV 1 X.2.2.2.2.1 (lw_V q1339 q1341 qs30 q127 q1342) rfl rfl rfl (by decide +kernel) (by constructor <;> (dsimp only) <;> omega)) rfl hag hl (ltlp (ltm hx94 he100) (ltli ltln)) ltsn (k8 := 0) (cs0 (k := 0)) (by decide) hd105 hd105.1 hd105.2 dX9_expr_47 rfl (fun r109 ad g106 ι107 H locs hF hv110 X hP hag he108 hl => ?_)
          show WYq p l e ({ frames := F + 18, cells := BC, slots := BS, locals := L + 487 } : Room) s m args below meth c D dA ad0 g0 A Q Xq BC BS H locs (0 + b95 + b103) (0 + d96 + d104) (F0 m 50 ls [rv ad r109])
          refine ph_astore_n X hl dX9_expr_50 rfl (by decide) rfl (fun ls hl => ?_)
          obtain ⟨n9, hF⟩ := hF
          exact w_X9_expr_51 hrec hlt hex n9 _ _ _ _ _ _ _ _ _ _ _ hF X hP hag (lh_sub hl [1, 2, 0] rfl)
        · have hF := hF.2 c130
          refine lv_iconst (v := 1) X.1 X.2.1 dX9_expr_36 (by decide) ?_
          refine lv_goto (tgt := 41) X.1 X.2.1 dX9_expr_37 (by decide) ?_
          refine lv_iconst (v := 2) X.1 X.2.1 dX9_expr_41 (by decide) ?_
          obtain ⟨hx112, hF⟩ := hF
          obtain ⟨b113, d114, hF⟩ := hF
          obtain ⟨hd115, hF⟩ := hF
          refine hy_callVv 7 [iX 1, iX 2] [] X hP hex hm49 (met_X9_check l D dA ad _ _ hlt _ _ _ hF) (cwV 2 X.2.2.2.2.1 (lw_V q1300 q1302 qs27 q127 q1303) rfl rfl rfl (by decide +kernel) (by constructor <;> (dsimp only) <;> omega)) rfl hag hl (ltlp hx112 (ltli ltln)) ltsn (k8 := 0) (cs0 (k := 0)) (by decide) hd115 hd115.1 hd115.2 dX9_expr_42 rfl (fun ad g116 ι117 H locs hF X hP hag he118 hl => ?_)
          show WYq p l e ({ frames := F + 18, cells := BC, slots := BS, locals := L + 487 } : Room) s m args below meth c D dA ad0 g0 A Q Xq BC BS H locs (0 + b113) (0 + d114) (F0 m 45 ls [])
          refine ph_aload_n (n := 0) X hl dX9_expr_45 rfl rfl ?_
          refine ph_iload_n (n := 1) X hl dX9_expr_46 rfl rfl ?_
          obtain ⟨b121, d122, hF⟩ := hF
          obtain ⟨hd123, hF⟩ := hF
          obtain ⟨hm129, hF⟩ := hF
          refine hy_callVq 7 [iX a1] [] X hP hex hm129 (met_X9_and l D dA ad _ _ hrec hlt _ _ _ hF) (cwV 1 X.2.2.2.2.1 (lw_V q1339 q1341 qs30 q127 q1342) rfl rfl rfl (by decide +kernel) (by constructor <;> (dsimp only) <;> omega)) rfl hag hl (ltlp (ltm hx112 he118) (ltli ltln)) ltsn (k8 := 0) (cs0 (k := 0)) (by decide) hd123 hd123.1 hd123.2 dX9_expr_47 rfl (fun r127 ad g124 ι125 H locs hF hv128 X hP hag he126 hl => ?_)
          show WYq p l e ({ frames := F + 18, cells := BC, slots := BS, locals := L + 487 } : Room) s m args below meth c D dA ad0 g0 A Q Xq BC BS H locs (0 + b113 + b121) (0 + d114 + d122) (F0 m 50 ls [rv ad r127])
          refine ph_astore_n X hl dX9_expr_50 rfl (by decide) rfl (fun ls hl => ?_)
          obtain ⟨n9, hF⟩ := hF
          exact w_X9_expr_51 hrec hlt hex n9 _ _ _ _ _ _ _ _ _ _ _ hF X hP hag (lh_sub hl [1, 2, 0] rfl)
set_option maxHeartbeats 2000000 in
theorem met_X9_expr {rs : (Nat → Nat → (Nat → Nat → GT → S → Prop) → Nat → Int32 → GT → S → (Nat → GT → S → Prop) → Prop)} {F L : Nat} (l : Launch) (D : va_G) (dA : Nat → ClassId) (ad : Nat → Nat) (BC BS : Nat) (hrec : ∀ (BC BS : Nat) (ad : Nat → Nat) (g : GT) (ι : S) (sz : Nat) (a0 : Nat) (a1 : Int32) (Xq : Nat → Nat → GT → S → Prop) (Q : Nat → GT → S → Prop), rs BC BS Xq a0 a1 g ι Q → CYq l yX9_expr cX9_expr 3 (.object "SpoonRow$Expr") ({ frames := F, cells := BC, slots := BS, locals := L } : Room) D dA ad g ι sz [pX a0, iX a1] Q Xq BC BS) (hlt : l.stackTraces = false) {Xq : Nat → Nat → GT → S → Prop} (g : GT) (ι : S) (sz : Nat) {a0 : Nat} {a1 : Int32} {Q : Nat → GT → S → Prop} (hF : P_X9_expr rs BC BS Xq a0 a1 g ι Q) : CYq l yX9_expr cX9_expr 3 (.object "SpoonRow$Expr") ({ frames := F + 18, cells := BC, slots := BS, locals := L + 487 } : Room) D dA ad g ι sz [pX a0, iX a1] Q Xq BC BS := by
  refine yg_enter [pX a0, iX a1] (Qc := fun A => HPq D dA ad g A Q) (XC := fun A => XHC D dA ad g A Xq) (by decide +kernel) (Nat.le_of_ble_eq_true rfl) ?_
  intro p e s m args below meth c A ls X hP hl hex
  exact we_X9_expr hrec hlt hex _ _ _ _ _ _ _ _ hF X hP HA.rf hl
def P_exprR : Nat → Nat → Nat → (Nat → Nat → GT → S → Prop) → Nat → Int32 → GT → S → (Nat → GT → S → Prop) → Prop
  | 0, _, _, _, _, _, _, _, _ => False
  | d + 1, BC, BS, Xq, a0, a1, g, ι, Q => P_X9_expr (P_exprR d) BC BS Xq a0 a1 g ι Q
theorem met_exprR (l : Launch) (D : va_G) (dA : Nat → ClassId) (hlt : l.stackTraces = false) : ∀ (d BC BS : Nat) (ad : Nat → Nat) (g : GT) (ι : S) (sz : Nat) (a0 : Nat) (a1 : Int32) (Xq : Nat → Nat → GT → S → Prop) (Q : Nat → GT → S → Prop), P_exprR d BC BS Xq a0 a1 g ι Q → CYq l yX9_expr cX9_expr 3 (.object "SpoonRow$Expr") ({ frames := 18 * d, cells := BC, slots := BS, locals := 487 * d } : Room) D dA ad g ι sz [pX a0, iX a1] Q Xq BC BS := by
  intro d
  induction d with
  | zero =>
    intro BC BS ad g ι sz a0 a1 Xq Q hF
    exact hF.elim
  | succ d ih =>
    intro BC BS ad g ι sz a0 a1 Xq Q hF
    exact met_X9_expr (rs := P_exprR d) (F := 18 * d) (L := 487 * d) l D dA ad BC BS ih hlt g ι sz hF
end HGA
