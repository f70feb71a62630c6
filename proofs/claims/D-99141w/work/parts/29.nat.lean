/-! ===== System.arraycopy, getClass ===== -/
def StepOkF (own : String) (cc : ByteArray) (nL : Nat) (nm : String) (pc len : Nat) (F : ALoc → AStk → AH → Option (ALoc × AStk × AH)) : Prop :=
  ∀ (G : GG) (d : Nat) (p : Program) (l : Launch) (e : Env) (R : Room) (s : State) (m : MethodId) (args : Array Value) (below : List Frame) (meth : Method) (c : Code), Cx G own cc nL nm d p R s m args meth c →
  ∀ (n0 s0 : Int) (L : ALoc) (st : AStk) (h : AH) (L' : ALoc) (st' : AStk) (h' : AH), F L st h = some (L', st', h') → ah_n h' - n0 ≤ R.cells → ah_s h' - s0 ≤ R.slots →
  ∀ (H : Heap) (locs : List Jvm.Loc) (cells slots : Nat) (ls : Array Slot) (sv : List Value) (Q : State → Prop), St G nL n0 s0 s L st h H locs cells slots ls sv →
  (∀ (H' : Heap) (locs' : List Jvm.Loc) (cells' slots' : Nat) (ls' : Array Slot) (sv' : List Value), St G nL n0 s0 s L' st' h' H' locs' cells' slots' ls' sv' → W p l e R s m args below meth c H' locs' cells' slots' Q (F0 m (pc + len) ls' sv')) →
  W p l e R s m args below meth c H locs cells slots Q (F0 m pc ls sv)
theorem cat_cv {G : GG} (hE : ∀ z, z < 0 → G.2.1 z = .null ∨ ∃ q, q < G.1 ∧ G.2.1 z = .ref q) (v : AV) : (cv G v).category ≤ 2 := by
  match v with
  | .inl z => exact Nat.le_succ 1
  | .inr (.inl z) => exact Nat.le_refl 2
  | .inr (.inr z) => rw [show (cv G (.inr (.inr z))).category = 1 from cat_cr hE z]; exact Nat.le_succ 1
theorem cat_sum {G : GG} (hE : ∀ z, z < 0 → G.2.1 z = .null ∨ ∃ q, q < G.1 ∧ G.2.1 z = .ref q) : ∀ (st : AStk), ((st.map (cv G)).map fun v => v.category).sum ≤ stw st := by
  intro st
  induction st with
  | nil => simp
  | cons v st ih =>
    simp only [List.map_cons, List.sum_cons] at ih ⊢
    match v with
    | .inl z => rw [show (cv G (.inl z)).category = 1 from rfl, show stw (.inl z :: st) = stw st + 1 from rfl]; omega
    | .inr (.inl z) => rw [show (cv G (.inr (.inl z))).category = 2 from rfl, show stw (.inr (.inl z) :: st) = stw st + 2 from rfl]; omega
    | .inr (.inr z) => rw [show (cv G (.inr (.inr z))).category = 1 from cat_cr hE z, show stw (.inr (.inr z) :: st) = stw st + 1 from rfl]; omega
theorem St.run {G : GG} {nL : Nat} {n0 s0 : Int} {s : State} {L : ALoc} {st : AStk} {h h' : AH} {H H1 : Heap} {locs locs2 : List Jvm.Loc} {cells slots : Nat} {ls : Array Slot} {sv : List Value} {z : Int} {q : Nat} (S : St G nL n0 s0 s L st h H locs cells slots ls sv) (hE : ∀ z, z < 0 → G.2.1 z = .null ∨ ∃ q, q < G.1 ∧ G.2.1 z = .ref q) (hz : 0 < z) (hq : cr G z = .ref q) (h1 : H1.size = H.size) (h2 : ∀ y, y ≠ q → H1[y]? = H[y]?)
    (hn : ah_n h' = ah_n h) (hs : ah_s h' = ah_s h) (ht : ∀ y, ah_t h' y = ah_t h y) (hm : ∀ y k, y ≠ z → ah_m h' y k = ah_m h y k) (hO : 0 < (ah_t h z).1 → cellO G h' H1 z) (hA : (ah_t h z).1 < 0 → cellA G s h' H1 z) (hl2 : ∀ x ∈ locs2, x.base = q) (st' : AStk) (hw : ∀ u ∈ st', wfv u) : St G nL n0 s0 s L st' h' H1 (locs ++ locs2) cells slots ls (st'.map (cv G)) := by
  refine ⟨S.1.upd hE hz hq h1 h2 hn ht hm hO hA, fun x hx => ?_, by rw [hn]; exact S.2.2.1, by rw [hs]; exact S.2.2.2.1, S.2.2.2.2.1, rfl, hw⟩
  rcases List.mem_append.mp hx with hx | hx
  · exact S.2.1 x hx
  · rw [hl2 x hx]
    rw [cr_pos hz] at hq
    cases hq
    omega
section NAT
variable {own : String} {cc : ByteArray} {nL : Nat} {nm : String} {pc : Nat} {a b : Int} {t : List (Int × Int)} {x : AI}
theorem ok_copy {idx : Nat} (hd : decode cc pc = .ok (.invokestatic idx, 3)) (w1 : Cond.methodLink own idx arraycopyName ∈ lw_all) (w2 : Cond.native arraycopyName ∈ lw_all) (w3 : Cond.static arraycopyName ∈ lw_all) (w4 : Cond.initialized "java/lang/System" ∈ lw_all)
    (ht : ∀ x ∈ t, x.1 ≠ 0 ∧ ∃ C, tgName x.1 = some C ∧ Asg C "java/lang/Object") : StepOkF own cc nL nm pc 3 (semCopy t) := by
  intro G d p l e R s m args below meth c C n0 s0 L st h L' st' h' hs1 h1 h2 H locs cells slots ls sv Q S k
  unfold semCopy at hs1
  split at hs1
  · rename_i n dp y sp x st2
    split at hs1
    · rename_i hc
      obtain ⟨c1, c2, c3, c4, c5, c6, c7, c8, c9, c10, c11⟩ := hc
      obtain ⟨hx, hb, hml, hown, hts, hKS, hlk, hnm, hfr, hlo⟩ := C
      have hE := hKS.hE
      have hw := S.2.2.2.2.2.2
      have rn : r32 n := wf_h hw
      have rdp : r32 dp := wf_h (wf_t hw)
      have rsp : r32 sp := wf_h (wf_t (wf_t (wf_t hw)))
      have hneg : (ah_t h x).1 < 0 := by rcases c4 with c4 | ⟨c4, -⟩ <;> omega
      obtain ⟨q0, cA0, ty, b1, b2, b3, b4, b5, b6, b7, b8⟩ := S.1.2.2.2.2.1 x hneg
      obtain ⟨q1, cA1, ty1, d1, d2, d3, d4, d5, d6, d7, d8⟩ := S.1.2.2.2.2.1 y (by omega)
      obtain rfl : ty1 = ty := Option.some.inj (d2.symm.trans (by rw [← c5]; exact b2))
      have hty : (ty1 = .byte ∧ (ah_t h x).1 = -2) ∨ (ty1 = .object "java/lang/Object" ∧ (ah_t h x).1 = -10 ∧ (List.range n.toNat).all (fun i => ah_m h x (sp + i) == 0 || (asc t (ah_t h (ah_m h x (sp + i))).1).isSome) = true) := by
        rcases c4 with c4 | ⟨c4, c4'⟩
        · left; rw [c4] at b2; exact ⟨(Option.some.inj b2).symm, c4⟩
        · right; rw [c4] at b2; exact ⟨(Option.some.inj b2).symm, c4, c4'⟩
      have neg : ∀ z : Int, r32 z → 0 ≤ z → ¬ Int32.ofInt z < 0 := fun z r h0 => by rw [show (0 : Int32) = Int32.ofInt 0 from rfl, i32_lt r (by unfold r32; omega)]; omega
      cases hs1
      have k9 := k
      rw [S.2.2.2.2.2.1]
      simp only [List.map_cons]
      rw [show cv G (.inr (.inr x)) = .ref q0 from b1, show cv G (.inr (.inr y)) = .ref q1 from d1]
      intro T hT X
      obtain ⟨-, k0, hk0, cm0, hkk0⟩ := b6 0 (fun _ => .null)
      obtain ⟨-, k1, hk1, cm1, hkk1⟩ := d6 0 (fun _ => .null)
      obtain ⟨vm', X', step⟩ := X.arraycopy hx hown (hts _ w1) (hts _ w2) (hts _ w3) (hts _ w4) (src := q0) (dst := q1) (cs := arrV cA0 (ah_t h x).2.toNat (fun i => cf G ty1 (ah_m h x i))) (cd := arrV cA1 (ah_t h y).2.toNat (fun i => cf G ty1 (ah_m h y i))) (srcPos := Int32.ofInt sp) (destPos := Int32.ofInt dp) (n := Int32.ofInt n) (by rw [hT]; exact b5) (by rw [hT]; exact d5)
        (fun _ h => (by cases h)) (fun _ h => (by cases h)) (fun h => (by cases h)) (fun h => (by cases h)) hk0 hk1 hkk0 hkk1 (by rcases hty with ⟨rfl, -⟩ | ⟨rfl, -⟩ <;> rfl) (neg _ rsp c7) (neg _ rdp c8) (neg _ rn c6)
        (by rw [t32 rsp, t32 rn, arrV_size]; omega) (by rw [t32 rdp, t32 rn, arrV_size]; omega)
        (fun vm1 hal i hi => by
          rw [clampI rn] at hi
          have e : (arrV cA0 (ah_t h x).2.toNat (fun i => cf G ty1 (ah_m h x i))).slots.getD ((Int32.ofInt sp).toNatClampNeg + i) .null = cf G ty1 (ah_m h x (sp + i)) := by
            rw [clampI rsp, Array.getD_eq_getD_getElem?, arrV_read _ _ (by omega), show (((sp.toNat + i : Nat)) : Int) = sp + i by omega]
            rfl
          rw [e]
          rcases hty with ⟨rfl, -⟩ | ⟨rfl, e10, hall⟩
          · refine ⟨?_, trivial⟩
            obtain ⟨r1, r2⟩ : inR .byte (ah_m h x ((sp.toNat + i : Nat) : Int)) := b8 _ (by omega)
            rw [show (((sp.toNat + i : Nat)) : Int) = sp + i by omega] at r1 r2
            have r0 : r32 (ah_m h x (sp + i)) := by unfold r32; omega
            have u1 : (-128 : Int32) ≤ Int32.ofInt (ah_m h x (sp + i)) := (i32_le (x := -128) (by unfold r32; omega) r0).mpr r1
            have u2 : Int32.ofInt (ah_m h x (sp + i)) ≤ (127 : Int32) := (i32_le (y := 127) r0 (by unfold r32; omega)).mpr (by omega)
            simp [cf, fits, u1, u2]
          · have h9 := List.all_eq_true.mp hall i (List.mem_range.mpr hi)
            simp only [Bool.or_eq_true, beq_iff_eq] at h9
            show fits _ (cr G _) = true ∧ State.takes _ _ (cr G _)
            rcases h9 with h9 | h9
            · rw [h9]; exact ⟨rfl, trivial⟩
            · obtain ⟨v9, hv9⟩ := Option.isSome_iff_exists.mp h9
              obtain ⟨g0, C1, hC, hA⟩ := ht _ (asc_mem hv9)
              obtain ⟨q', cell', f1, f2, f3, f4, kv, f5⟩ := cls_of S.1 hKS g0 hC
              obtain ⟨cT, j1, j2⟩ := hA.use hKS f4
              obtain ⟨-, -, kA, comp, r1, r2, r3⟩ := cmp_of hKS (ta := -10) rfl rfl d7
              cases hk1.symm.trans r1
              cases hkk1.symm.trans r2
              cases j1.symm.trans r3
              obtain ⟨kE, hkE, -⟩ := Vm.findClass_spec r3
              obtain ⟨kC', hkC', -⟩ := hal.2.2 _ _ f5
              obtain ⟨kE', hkE', -⟩ := hal.2.2 _ _ hkE
              rw [f1]
              refine ⟨rfl, cell', (show T.heap[q']? = some cell' by rw [hT]; exact f2), VmData.noStatics_of f3, ⟨kC', hkC'⟩, ⟨kE', hkE'⟩, ?_⟩
              show vm1.assignable _ _ = true
              rw [hal.assignable]
              exact j2)
        (g := F0 m pc ls (.int (Int32.ofInt n) :: .int (Int32.ofInt dp) :: .ref q1 :: .int (Int32.ofInt sp) :: .ref q0 :: st'.map (cv G))) rfl (by rw [hml]; exact S.2.2.2.2.1.1) (rest := st'.map (cv G)) rfl (by rw [hb]; exact hd) (by omega) (by
          have := cat_sum hE st'
          have e0 : nativeFrameWords "java/lang/System" "arraycopy" 5 + 11 ≤ 80 := by decide
          show 2 * 0 + _ + _ ≤ _
          omega)
      have e1 : copied (arrV cA0 (ah_t h x).2.toNat (fun i => cf G ty1 (ah_m h x i))) (arrV cA1 (ah_t h y).2.toNat (fun i => cf G ty1 (ah_m h y i))) (Int32.ofInt sp) (Int32.ofInt dp) (Int32.ofInt n) = arrV cA1 (ah_t h y).2.toNat (fun j => cf G ty1 (va_cpy (fun i : Nat => ah_m h x i) (fun i : Nat => ah_m h y i) sp.toNat dp.toNat n.toNat j)) := by
        have := va_copied (cf G ty1) cA0 cA1 (n0 := (ah_t h x).2.toNat) (n1 := (ah_t h y).2.toNat) (sp := sp.toNat) (dp := dp.toNat) (n := n.toNat) (fun i : Nat => ah_m h x i) (fun i : Nat => ah_m h y i) (by omega)
        rw [← this]
        unfold copied
        rw [clampI rsp, clampI rdp, clampI rn]
      rw [e1] at X' step
      have hl : q1 < H.size := (Array.getElem?_eq_some_iff.mp d5).1
      generalize hcell : arrV cA1 (ah_t h y).2.toNat (fun j => cf G ty1 (va_cpy (fun i : Nat => ah_m h x i) (fun i : Nat => ah_m h y i) sp.toNat dp.toNat n.toNat j)) = newc at X' step
      have hheap : ((T.setVm vm').setCell q1 newc).heap = H.setIfInBounds q1 newc := by rw [← hT]; rfl
      have oq : ∀ q : Nat, q ≠ q1 → (H.setIfInBounds q1 newc)[q]? = H[q]? := fun q hq => by simp [Array.getElem?_setIfInBounds, Ne.symm hq]
      have hsl : ∀ j : Nat, va_cpy (fun i : Nat => ah_m h x i) (fun i : Nat => ah_m h y i) sp.toNat dp.toNat n.toNat j = (if dp ≤ (j : Int) ∧ (j : Int) < dp + n then ah_m h x (sp + ((j : Int) - dp)) else ah_m h y j) := by
        intro j
        unfold va_cpy
        by_cases hj : dp ≤ (j : Int) ∧ (j : Int) < dp + n
        · rw [if_pos (by omega), if_pos hj]
          exact congrArg (ah_m h x) (show ((sp.toNat + (j - dp.toNat) : Nat) : Int) = sp + ((j : Int) - dp) by omega)
        · rw [if_neg (by omega), if_neg hj]
      have St2 := S.run (h' := ah_row h y (fun j => if dp ≤ j ∧ j < dp + n then ah_m h x (sp + (j - dp)) else ah_m h y j)) (H1 := H.setIfInBounds q1 newc) (locs2 := ((arrV cA0 (ah_t h x).2.toNat (fun i => cf G ty1 (ah_m h x i))).stretch (Int32.ofInt sp).toNatClampNeg (Int32.ofInt n).toNatClampNeg).zipIdx.map fun q => ⟨q1, (Int32.ofInt dp).toNatClampNeg + q.2⟩) hE c2 d1 (by simp) oq rfl rfl (fun _ => rfl) (fun y9 k9 hy => if_neg hy) (fun h9 => absurd h9 (by omega)) (fun _ => ?_) (fun z hz => by obtain ⟨u, -, hu⟩ := List.mem_map.mp hz; rw [← hu]) st' (wf_t (wf_t (wf_t (wf_t (wf_t hw)))))
      · obtain ⟨t9, a1, b9⟩ := k9 _ _ _ _ _ _ St2 _ hheap X'
        exact ⟨t9, step t9 a1, b9⟩
      · refine ⟨q1, cA1, ty1, d1, d2, d3, d4, ?_, d6, d7, fun i hi => ?_⟩
        · rw [show (H.setIfInBounds q1 newc)[q1]? = some newc by simp [Array.getElem?_setIfInBounds, hl], ← hcell]
          refine congrArg some (congrArg (arrV cA1 _) (funext fun j => ?_))
          show _ = cf G ty1 (if y = y then _ else _)
          rw [if_pos rfl, hsl]
        · show inR ty1 (if y = y then _ else _)
          rw [if_pos rfl]
          by_cases hj : dp ≤ (i : Int) ∧ (i : Int) < dp + n
          · rw [if_pos hj]
            have := b8 (sp + ((i : Int) - dp)).toNat (by omega)
            rw [show (((sp + ((i : Int) - dp)).toNat : Nat) : Int) = sp + ((i : Int) - dp) by omega] at this
            exact this
          · rw [if_neg hj]
            exact d8 i hi
    · cases hs1
  · cases hs1
/-- getClass of an Object[] -/
def semGC (b : Int) (L : ALoc) (st : AStk) (h : AH) : Option (ALoc × AStk × AH) := match st with
  | .inr (.inr z) :: st => if (ah_t h z).1 = -10 ∧ stw st ≤ 8 then some (L, .inr (.inr b) :: st, h) else none
  | _ => none
theorem ok_getClass {idx : Nat} (hd : decode cc pc = .ok (.invokevirtual idx, 3)) (hb0 : b = -308) (w1 : Cond.methodLink own idx ⟨"java/lang/Object", "getClass", "()Ljava/lang/Class;"⟩ ∈ lw_all) (w2 : Cond.declares ⟨"java/lang/Object", "getClass", "()Ljava/lang/Class;"⟩ ∈ lw_tbl)
    (w3 : Cond.selects "[Ljava/lang/Object;" ⟨"java/lang/Object", "getClass", "()Ljava/lang/Class;"⟩ ⟨"java/lang/Object", "getClass", "()Ljava/lang/Class;"⟩ ∈ lw_all) (w4 : Cond.instanceMethod ⟨"java/lang/Object", "getClass", "()Ljava/lang/Class;"⟩ ∈ lw_all) (w5 : Cond.native ⟨"java/lang/Object", "getClass", "()Ljava/lang/Class;"⟩ ∈ lw_all) : StepOkF own cc nL nm pc 3 (semGC b) := by
  intro G d p l e R s m args below meth c C n0 s0 L st h L' st' h' hs1 h1 h2 H locs cells slots ls sv Q S k
  unfold semGC at hs1
  split at hs1
  · rename_i z st2
    split at hs1
    · rename_i hc
      obtain ⟨c1, c2⟩ := hc
      cases hs1
      subst hb0
      obtain ⟨hx, hb, hml, hown, hts, hKS, hlk, hnm, hfr, hlo⟩ := C
      have hw := S.2.2.2.2.2.2
      obtain ⟨q, cell, b1, b2, b3, b4, -⟩ := cls_of (C := "[Ljava/lang/Object;") S.1 hKS (z := z) (by omega) (by rw [c1]; rfl)
      obtain ⟨mi, e1, e2⟩ := hKS.2.2.2.2.2.1
      have k9 := k _ _ _ _ _ _ (S.stk (.inr (.inr (-308)) :: st2) (wf_c trivial (wf_t hw)))
      rw [List.map_cons, show cv G (.inr (.inr (-308))) = .ref mi from by show cr G (-308) = _; rw [cr_neg (by decide)]; exact e1] at k9
      rw [S.2.2.2.2.2.1, List.map_cons, show cv G (.inr (.inr z)) = .ref q from b1]
      exact va_getC hx hb (by rw [hml]; exact S.2.2.2.2.1.1.symm) hown (hts _ w1) (va_Nw.use rfl (hKS.2.1 _ w2 rfl)) (hts _ w3) (hts _ w4) (hts _ w5) e2 ⟨cell, b2, b3, b4⟩ (by omega) (by have := cat_sum hKS.hE st2; omega) hd k9
    · cases hs1
  · cases hs1
end NAT
