set_option maxRecDepth 100000
def newX (h : HT) (c n : Nat) (f : Nat → Int32) (r : Nat → Nat) : HT := (h.1 + 1, va_up h.2.1 (200 + h.1) c, va_up h.2.2.1 (200 + h.1) n, va_up h.2.2.2.1 (200 + h.1) f, va_up h.2.2.2.2 (200 + h.1) r)
def newgr (g : GT) (c n : Nat) (r : Nat → Nat) : GT := (g.1 + 1, va_up g.2.1 (200 + g.1) c, va_up g.2.2.1 (200 + g.1) n, va_up g.2.2.2 (200 + g.1) r)
theorem hs_newgr (g : GT) (ι : S) (c n : Nat) (r : Nat → Nat) : newX (HS g ι) c n (fun _ => 0) r = HS (newgr g c n r) (newi g ι) := rfl
theorem wfh_newX {h : HT} (w : WFH h) {c n : Nat} {f : Nat → Int32} {r : Nat → Nat} (hc : c ≠ 0) (hr : ∀ k, r k < 200 + hN h) : WFH (newX h c n f r) := by
  refine ⟨fun q hq => ?_, fun q hq => ?_, fun q j => ?_, fun q h0 h1 => ?_⟩
  · obtain ⟨a, b, e, d⟩ := w.1 q hq
    exact ⟨(if_neg (by omega)).trans a, (if_neg (by omega)).trans b, (if_neg (by omega)).trans e, (if_neg (by omega)).trans d⟩
  · have hq : 200 + (h.1 + 1) ≤ q := hq
    exact (if_neg (by omega)).trans (w.2.1 q (by show 200 + h.1 ≤ q; omega))
  · show va_up h.2.2.2.2 (200 + h.1) r q j < 200 + (h.1 + 1)
    unfold va_up
    split
    · have : r j < 200 + h.1 := hr j
      omega
    · have : h.2.2.2.2 q j < 200 + h.1 := w.2.2.1 q j
      omega
  · have h1 : q < 200 + (h.1 + 1) := h1
    show va_up h.2.1 (200 + h.1) c q ≠ 0
    unfold va_up
    split
    · exact hc
    · exact w.2.2.2 q h0 (by show q < 200 + h.1; omega)
theorem PL_pushX {dA : Nat → ClassId} {ad : Nat → Nat} {h : HT} {c n q : Nat} {f : Nat → Int32} {r : Nat → Nat} {e : va_E} (w : WFH h) (he : entv dA (va_up ad (200 + hN h) q) (newX h c n f r) (200 + hN h) = e) : PL dA ad h ++ [(q, e)] = PL dA (va_up ad (200 + hN h) q) (newX h c n f r) := by
  unfold PL
  rw [show hN (newX h c n f r) = hN h + 1 from rfl, List.range_succ, List.map_append]
  congr 1
  · apply List.map_congr_left
    intro i hi
    have hi : i < hN h := List.mem_range.mp hi
    have e1 : va_up ad (200 + hN h) q (200 + i) = ad (200 + i) := if_neg (by omega)
    rw [e1]
    congr 1
    have e2 : entv dA (va_up ad (200 + hN h) q) (newX h c n f r) (200 + i) = entv dA (va_up ad (200 + hN h) q) h (200 + i) := entv_ext (if_neg (show ¬ 200 + i = 200 + h.1 by unfold hN at hi; omega)) (if_neg (show ¬ 200 + i = 200 + h.1 by unfold hN at hi; omega)) (if_neg (show ¬ 200 + i = 200 + h.1 by unfold hN at hi; omega)) (if_neg (show ¬ 200 + i = 200 + h.1 by unfold hN at hi; omega))
    rw [e2]
    exact (entv_ad (fun k => if_neg (Nat.ne_of_lt (w.2.2.1 _ k)))).symm
  · simp only [List.map_cons, List.map_nil]
    rw [he]
    congr 2
    exact (if_pos rfl).symm
section HG3
variable {p : Program} {l : Launch} {e : Env} {R : Room} {s : State} {m : MethodId} {args : Array Value} {below : List Frame} {meth : Method} {c : Code} {H : Heap} {locs : List Loc} {cells slots : Nat} {Q : State → Prop}
variable {cc : ByteArray} {nL pc : Nat} {ret : Option FieldType} {ls : Array Slot} {rest : List Value} {D : va_G} {dA : Nat → ClassId} {ad : Nat → Nat} {A : Nat → Prop} {h : HT} {own : String} {pl : Nat} {lv : List (Nat × TV)}
variable {g g0 : GT} {ι : S} {st0 : List Value} {ad0 : Nat → Nat}
theorem hg_cloneV (rs : List TV) {index : Nat} {P : GT → S → Prop} (X : CX p s m args c meth cc nL ret own D dA ad A) (hP : PW D dA A s.heap ad (HS g ι) H locs) (hA0 : HA ad0 g0 ad g) (hl : LH ad ls nL lv) (hlv : LTl (200 + gN g) lv) (hrs : LTs (200 + gN g) rs) (hlink : Cond.methodLink own index ⟨"[LSpoonRow$Value;", "clone", "()Ljava/lang/Object;"⟩ ∈ lw_all) (hsame : Cond.sameMethod "[LSpoonRow$Value;" "java/lang/Object" "clone" "()Ljava/lang/Object;" ∈ lw_all) (hnat : Cond.native ⟨"java/lang/Object", "clone", "()Ljava/lang/Object;"⟩ ∈ lw_all) (hinst : Cond.instanceMethod ⟨"java/lang/Object", "clone", "()Ljava/lang/Object;"⟩ ∈ lw_all) (hsel : Cond.selects "[LSpoonRow$Value;" ⟨"[LSpoonRow$Value;", "clone", "()Ljava/lang/Object;"⟩ ⟨"java/lang/Object", "clone", "()Ljava/lang/Object;"⟩ ∈ lw_all) (hca : Cond.castable "[LSpoonRow$Value;" "java/lang/Cloneable" ∈ lw_tbl) {k8 : Nat} (hrest : ((rs.map (tv ad)).map fun v => v.category).sum ≤ k8) (h8 : k8 ≤ 8) (hRR : 1 ≤ R.frames ∧ 30 ≤ R.locals) (hroom : cells + 1 ≤ R.cells ∧ slots + 7 ≤ R.slots) (hdg : decode cc pc = .ok (.invokevirtual index, 3)) (hst : st0 = rv ad 120 :: rs.map (tv ad)) (hF : ∀ g' ι', g' = newgr g 112 7 (fun k => if k < 7 then 105 + k else 0) → ι' = newi g ι → P g' ι')
    (kk : ∀ (H1 : Heap) (ad' : Nat → Nat) (g' : GT) (ι' : S), CX p s m args c meth cc nL ret own D dA ad' A → PW D dA A s.heap ad' (HS g' ι') H1 locs → HA ad0 g0 ad' g' → gN g + 1 ≤ gN g' → (gK g' (200 + gN g) = 112 ∧ ∀ v, v < 200 + gN g → gK g' v = gK g v) → LH ad' ls nL lv → P g' ι' → W p l e R s m args below meth c H1 locs (cells + 1) (slots + 7) Q (F0 m (pc + 3) ls (rv ad' (200 + gN g) :: rs.map (tv ad')))) : W p l e R s m args below meth c H locs cells slots Q (F0 m pc ls st0) := by
  subst hst
  rw [rv_nz (by omega)]
  have h1 : ∀ q, ∀ p, p < 200 + gN g → va_up ad (200 + gN g) q p = ad p := fun q p hp => if_neg (Nat.ne_of_lt hp)
  obtain ⟨cell, c1, c2, c3, c4, c5, c6⟩ := (X.2.2.2.2.2.2.1.2.2.2.2.2.2.2.2.2.2.2.2.2.2.2.1).kept hP.2.2.1.2.1
  have ccl : cell.cls = dA 112 := Option.some.inj (c2.symm.trans (nmO112 X))
  obtain ⟨c0, t0', f1, f2, f3⟩ := Cond.castable_spec (va_Nw.use (A := args) rfl (X.2.2.2.2.2.2.1.2.1 _ hca rfl))
  cases c2.symm.trans f1
  obtain ⟨kA, comp, k1, k2, -, -⟩ := (X.2.2.2.2.2.2.1.1.2 5 (dA 112, .object "SpoonRow$Value") rfl).2
  have hsl : ∀ (i : Nat) (v : Value), cell.slots[i]? = some v → v = Value.ref (ad (105 + i)) := fun i v hv => by
    have hi : i < 7 := by rw [← c4]; exact (Array.getElem?_eq_some_iff.mp hv).1
    rw [c5 i hi] at hv
    exact (Option.some.inj hv).symm
  intro T hT Y
  have hA' : s.vm.Alike T.vm := Y.warmed.alike
  obtain ⟨kA', hkA', hke⟩ := hA'.2.2 _ _ k1
  obtain ⟨vm', X', st⟩ := Y.cloneArray X.1 X.2.2.2.1 (X.2.2.2.2.1 _ hlink) (X.2.2.2.2.1 _ hsame) (X.2.2.2.2.1 _ hnat) (X.2.2.2.2.1 _ hinst) (X.2.2.2.2.1 _ hsel) (a := ad 120) (cell := cell) (by rw [hT]; exact c1) (fun k h => by rw [h] at c3; exact Bool.noConfusion c3.2) c3.1 c2 f2 f3
    (fun i v hv => by
      rw [hsl i v hv, ccl]
      have hk' : T.vm.classes[dA 112]? = some kA' := hkA'
      have hk2 : kA'.kind = .array comp (.object "SpoonRow$Value") := by rw [hke]; exact k2
      simp [State.fitsSlot, State.slotType?, hk', hk2, fits])
    (g := F0 m pc ls (.ref (ad 120) :: rs.map (tv ad))) rfl (hl.1.trans X.2.2.1.symm) rfl (by rw [X.2.1]; exact hdg) hRR.1 (by have := hRR.2; show 2 * 0 + _ + 14 ≤ _; omega) hroom.1 (by rw [c4]; exact hroom.2) (hloader := by rw [ccl]; exact Vm.clonesLoader_of_array k1 k2)
  have hcE : ({ cls := cell.cls, slots := cell.slots } : Cell) = vp_cell (dA 112) (7, .inr (.inr (.inr (.inr (fun k => ro (va_up ad (200 + gN g) H.size) (if k < 7 then 105 + k else 0)))))) := by
    rw [vp_cell_q, ccl]
    unfold arrV
    congr 1
    refine Array.ext (by simp [c4]) (fun i hi1 hi2 => ?_)
    have hi : i < 7 := by rw [← c4]; exact hi1
    have h9 := c5 i hi
    rw [Array.getElem?_eq_getElem hi1] at h9
    rw [Option.some.inj h9]
    simp only [Array.getElem_ofFn]
    rw [if_pos hi]
    unfold ro
    rw [if_neg (by omega), h1 H.size (105 + i) (by omega)]
    rfl
  rw [hcE, c4] at X'
  generalize hH1 : H.push (vp_cell (dA 112) (7, .inr (.inr (.inr (.inr (fun k => ro (va_up ad (200 + gN g) H.size) (if k < 7 then 105 + k else 0))))))) = H1
  have z1 : H1.size = H.size + 1 := by rw [← hH1, Array.size_push]
  have e1 : H1[H.size]? = some (vp_cell (dA 112) (7, .inr (.inr (.inr (.inr (fun k => ro (va_up ad (200 + gN g) H.size) (if k < 7 then 105 + k else 0))))))) := by rw [← hH1, Array.getElem?_push_size]
  have o1 : ∀ q : Nat, q < H.size → H1[q]? = H[q]? := fun q hq => by rw [← hH1, Array.getElem?_push, if_neg (Nat.ne_of_lt hq)]
  have hk : ∀ (k : Nat) (y : Nat × va_E), (PL dA ad (HS g ι))[k]? = some y → H1[y.1]? = H[y.1]? := fun k y hy => o1 y.1 ((hP.1 k y hy).lt)
  have he : entv dA (va_up ad (200 + gN g) H.size) (newX (HS g ι) 112 7 (fun _ => 0) (fun k => if k < 7 then 105 + k else 0)) (200 + gN g) = .inl (dA 112, 7, .inr (.inr (.inr (.inr (fun k => ro (va_up ad (200 + gN g) H.size) (if k < 7 then 105 + k else 0)))))) := by
    rw [entv_q (c := 112) (show hK (newX (HS g ι) 112 7 (fun _ => 0) (fun k => if k < 7 then 105 + k else 0)) (200 + gN g) = 112 from if_pos rfl) (by omega)]
    rw [show hR (newX (HS g ι) 112 7 (fun _ => 0) (fun k => if k < 7 then 105 + k else 0)) (200 + gN g) = fun k => if k < 7 then 105 + k else 0 from if_pos rfl, show hL (newX (HS g ι) 112 7 (fun _ => 0) (fun k => if k < 7 then 105 + k else 0)) (200 + gN g) = 7 from if_pos rfl]
  have q1 : va_P D CL (PL dA ad (HS g ι) ++ [(H.size, .inl (dA 112, 7, .inr (.inr (.inr (.inr (fun k => ro (va_up ad (200 + gN g) H.size) (if k < 7 then 105 + k else 0)))))))]) H1 := (hP.1.kept hk).app (fun k y hy => by
    have hz : k < 1 := (List.getElem?_eq_some_iff.mp hy).1
    rw [show k = 0 by omega] at hy
    cases hy
    exact e1)
  have q2 : va_D A (PL dA ad (HS g ι) ++ [(H.size, .inl (dA 112, 7, .inr (.inr (.inr (.inr (fun k => ro (va_up ad (200 + gN g) H.size) (if k < 7 then 105 + k else 0)))))))]) := hP.2.1.push hP.1 rfl (X.2.2.2.2.2.1 _ hP.2.2.1.1)
  have q3 : va_S A s.heap H1 locs := ⟨Nat.le_trans hP.2.2.1.1 (by omega), fun y g1 g2 => (o1 y (Nat.lt_of_lt_of_le g1 hP.2.2.1.1)).trans (hP.2.2.1.2.1 y g1 g2), hP.2.2.1.2.2⟩
  have e := PL_pushX (dA := dA) (ad := ad) (q := H.size) (c := 112) (n := 7) (f := fun _ => 0) (r := fun k => if k < 7 then 105 + k else 0) hP.2.2.2 he
  have e : PL dA ad (HS g ι) ++ [(H.size, .inl (dA 112, 7, .inr (.inr (.inr (.inr (fun k => ro (va_up ad (200 + gN g) H.size) (if k < 7 then 105 + k else 0)))))))] = PL dA (va_up ad (200 + gN g) H.size) (HS (newgr g 112 7 (fun k => if k < 7 then 105 + k else 0)) (newi g ι)) := e
  rw [e] at q1 q2
  have w' : WFH (HS (newgr g 112 7 (fun k => if k < 7 then 105 + k else 0)) (newi g ι)) := wfh_newX (h := HS g ι) (c := 112) (n := 7) (f := fun _ => 0) (r := fun k => if k < 7 then 105 + k else 0) hP.2.2.2 (by decide) (fun k => by show (if k < 7 then 105 + k else 0) < 200 + gN g; split <;> omega)
  have h2 := kk H1 _ _ _ (cx_ad X (fun p hp => h1 H.size p (by omega))) ⟨q1, q2, q3, w'⟩ (hA0.tr ⟨Nat.le_succ _, h1 H.size⟩) (Nat.le_refl _) ⟨if_pos rfl, fun v hv => if_neg (Nat.ne_of_lt hv)⟩ (lh_new hl hlv (h1 H.size)) (hF _ _ rfl rfl)
  rw [tvs_new hrs (h1 H.size), rv_nz (by omega), show va_up ad (200 + gN g) H.size (200 + gN g) = H.size from if_pos rfl] at h2
  obtain ⟨t, b1, b2⟩ := h2 ((T.setVm vm').pushCell (vp_cell (dA 112) (7, .inr (.inr (.inr (.inr (fun k => ro (va_up ad (200 + gN g) H.size) (if k < 7 then 105 + k else 0)))))))) (by rw [← hH1, ← hT]; rfl) X'
  refine ⟨t, st t ?_, b2⟩
  rw [hcE, hT]
  exact b1
end HG3
