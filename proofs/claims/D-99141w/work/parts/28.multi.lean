/-! ===== int[][] and System.arraycopy, getClass ===== -/
theorem outer_eq (c : ClassId) (N h0 : Nat) : ∀ i, Jvm.Free.Multi.outerC c N h0 i = arrV c N (fun j => if j < i then .ref (h0 + 1 + j) else .null)
  | 0 => by
    rw [show Jvm.Free.Multi.outerC c N h0 0 = arrV c N (fun _ => .null) from arrV_new c N .null]
    rfl
  | i + 1 => by
    show (Jvm.Free.Multi.outerC c N h0 i).setSlot i (.ref (h0 + 1 + i)) = _
    rw [outer_eq c N h0 i, arrV_store]
    refine congrArg (arrV c N) (funext fun j => ?_)
    unfold updV
    by_cases e : j = i
    · rw [if_pos e, e, if_pos (by omega)]
    · rw [if_neg e]
      dsimp only
      by_cases e2 : j < i
      · rw [if_pos e2, if_pos (by omega)]
      · rw [if_neg e2, if_neg (by omega)]
theorem arrV_ext {cA : ClassId} {n : Nat} {f g : Nat → Value} (h : ∀ j, j < n → f j = g j) : arrV cA n f = arrV cA n g := by
  unfold arrV
  congr 1
  congr 1
  funext j
  exact h j.1 j.2
section MULTI
variable {own : String} {cc : ByteArray} {nL : Nat} {nm : String} {pc : Nat} {a b : Int} {t : List (Int × Int)} {x : AI}
theorem ok_multi {idx : Nat} (hd : decode cc pc = .ok (.multianewarray idx 2, 4)) (ha : a = -13) (w1 : Cond.classLink own idx "[[I" ∈ lw_all) (w2 : Cond.arrayClass .int ∈ lw_all) : StepOk own cc nL nm pc 4 (.multianewarray idx 2, a, b, t) := by
  intro G d p l e R s m args below meth c C n0 s0 L st h L' st' h' hs1 h1 h2 H locs cells slots ls sv Q S k
  simp only [sem1] at hs1
  split at hs1
  · rename_i n K st2
    split at hs1
    · rename_i hc
      obtain ⟨c1, c2, c3, c4⟩ := hc
      cases hs1
      subst ha
      obtain ⟨hx, hb, hml, hown, hts, hKS, hlk, hnm, hfr, hlo⟩ := C
      have hw := S.2.2.2.2.2.2
      have rn : r32 n := wf_h hw
      have rk : r32 K := wf_h (wf_t hw)
      have e1 : ah_n h + 1 + K - n0 ≤ R.cells := h1
      have e2 : ah_s h + K + K * n - s0 ≤ R.slots := h2
      have g1 := S.2.2.1
      have g2 := S.2.2.2.1
      obtain ⟨a1, a2, a3, a4, a5, a6⟩ := S.1
      have hE := hKS.hE
      have hkn : ((K.toNat * n.toNat : Nat) : Int) = K * n := by
        rw [Int.natCast_mul, Int.toNat_of_nonneg c3, Int.toNat_of_nonneg c1]
      have hmm : 0 ≤ K * n := by rw [← hkn]; exact Int.natCast_nonneg _
      rw [S.2.2.2.2.2.1, List.map_cons, List.map_cons]
      intro T hT X
      obtain ⟨vm1, cA, comp, hW, hfA, hfC, hO, hI, X1, step⟩ := X.multianewarray2F hx (ty := .int) hown (hts _ w1) hKS.2.2.2.1.2.2.2 (hts _ w2) (g := F0 m pc ls (.int (Int32.ofInt n) :: .int (Int32.ofInt K) :: st2.map (cv G))) rfl (by rw [hb]; exact hd) (n := Int32.ofInt K) (k := Int32.ofInt n) rfl
        (by rw [show (0 : Int32) = Int32.ofInt 0 from rfl, i32_lt rk (by unfold r32; omega)]; omega) (by rw [show (0 : Int32) = Int32.ofInt 0 from rfl, i32_lt rn (by unfold r32; omega)]; omega)
        (by rw [clampI rk]; omega) (by rw [clampI rn]; show n.toNat * 4 ≤ _; omega) (by rw [clampI rn]; omega) rfl rfl (by rw [clampI rk]; omega) (by rw [clampI rk, clampI rn]; omega)
      rw [clampI rk, clampI rn] at X1 step
      have F := Jvm.Free.Multi.fill_facts (T.setVm vm1) cA comp K.toNat n.toNat (defaultValue .int) K.toNat
      have hTs : (T.setVm vm1).heap = H := hT
      rw [hTs] at F
      have hold : ∀ y, y < H.size → (Jvm.Free.Multi.fill (T.setVm vm1) cA comp K.toNat n.toNat (defaultValue .int) K.toNat).heap[y]? = H[y]? := fun y hy => by
        rw [Jvm.Free.Multi.fill_old (T.setVm vm1) cA comp K.toNat n.toNat (defaultValue .int) (by rw [hTs]; exact hy) K.toNat, hTs]
      have hinn : ∀ j, j < K.toNat → (Jvm.Free.Multi.fill (T.setVm vm1) cA comp K.toNat n.toNat (defaultValue .int) K.toNat).heap[H.size + 1 + j]? = some (arrV comp n.toNat (fun _ => .int 0)) := fun j hj => by
        rw [← arrV_new, ← hTs]
        exact Jvm.Free.Multi.fill_inner (T.setVm vm1) cA comp K.toNat n.toNat (defaultValue .int) K.toNat j hj
      generalize hTT : Jvm.Free.Multi.fill (T.setVm vm1) cA comp K.toNat n.toNat (defaultValue .int) K.toNat = TT at X1 step F hold hinn
      obtain ⟨F1, F2, -, -⟩ := F
      have hout : TT.heap[H.size]? = some (arrV cA K.toNat (fun i => .ref (H.size + 1 + i))) := by
        rw [F2, outer_eq]
        exact congrArg some (arrV_ext (fun j hj => if_pos hj))
      have hAO : ArrOfT s cA (.array .int) := fun n9 z9 => ⟨fun k h => (by cases h), (hO 0 0 0).1.2⟩
      have hAI : ArrOfT s comp .int := fun n9 z9 => ⟨fun k h => (by cases h), (hI 0 (.int 0)).1.2⟩
      have hlt9 : ∀ z, (ah_t h z).1 ≠ 0 → z < ah_n h := fun z hz => by
        rcases Int.lt_or_le z (ah_n h) with q | q
        · exact q
        · exact absurd (a3 z q) hz
      refine (k TT.heap locs (cells + 1 + K.toNat) (slots + K.toNat + K.toNat * n.toNat) ls _ ⟨⟨?_, ?_, ?_, ?_, ?_, ?_⟩, S.2.1, ?_, ?_, S.2.2.2.2.1, rfl, wf_c trivial (wf_t (wf_t hw))⟩ TT rfl X1).elim (fun t9 q => ⟨t9, step t9 (by
        have := q.1
        rw [List.map_cons, show cv G (.inr (.inr (ah_n h))) = .ref H.size from S.1.next] at this
        rw [hT]
        exact this), q.2⟩)
      · show TT.heap.size + 1 = G.1 + (ah_n h + 1 + K).toNat
        rw [F1]; omega
      · show 1 ≤ ah_n h + 1 + K
        omega
      · intro z hz
        have hz : ah_n h + 1 + K ≤ z := hz
        show (if z = ah_n h then ((-13 : Int), K) else if ah_n h < z ∧ z ≤ ah_n h + K then (-1, n) else ah_t h z).1 = 0
        rw [if_neg (by omega), if_neg (by omega)]
        exact a3 z (by omega)
      · intro z hz
        have hz : 0 < (if z = ah_n h then ((-13 : Int), K) else if ah_n h < z ∧ z ≤ ah_n h + K then (-1, n) else ah_t h z).1 := hz
        have z1 : ¬ z = ah_n h := fun q => by rw [if_pos q] at hz; exact absurd hz (by dsimp only; omega)
        have z2 : ¬ (ah_n h < z ∧ z ≤ ah_n h + K) := fun q => by rw [if_neg z1, if_pos q] at hz; exact absurd hz (by dsimp only; omega)
        rw [if_neg z1, if_neg z2] at hz
        have hzl := hlt9 z (by omega)
        obtain ⟨q2, r, b1, b2, b3, b4⟩ := a4 z hz
        have et : ∀ (M : Int → Int → Int) (X Y : Int), ah_t (M, fun x => if x = ah_n h then ((-13 : Int), K) else if ah_n h < x ∧ x ≤ ah_n h + K then (-1, n) else ah_t h x, X, Y) z = ah_t h z := fun M X Y => by
          show (if z = ah_n h then ((-13 : Int), K) else if ah_n h < z ∧ z ≤ ah_n h + K then (-1, n) else ah_t h z) = _
          rw [if_neg z1, if_neg z2]
        unfold cellO
        erw [et]
        have em : ∀ y : Int, (if z = ah_n h then (if 0 ≤ y ∧ y < K then ah_n h + 1 + y else 0) else if ah_n h ≤ z then 0 else ah_m h z y) = ah_m h z y := fun y => by rw [if_neg z1, if_neg (by omega)]
        have hlt : q2 < H.size := by obtain ⟨cell, c1, -⟩ := b3; exact (Array.getElem?_eq_some_iff.mp c1).1
        exact ⟨q2, r, b1, b2, (b3.kept (hold q2 hlt)).to (fun k _ => congrArg _ (em k).symm), fun k hk => Eq.mpr (congrArg (inR _) (em k)) (b4 k hk)⟩
      · intro z hz
        have hz : (if z = ah_n h then ((-13 : Int), K) else if ah_n h < z ∧ z ≤ ah_n h + K then (-1, n) else ah_t h z).1 < 0 := hz
        by_cases z1 : z = ah_n h
        · subst z1
          have et : ∀ (M : Int → Int → Int) (X Y : Int), ah_t (M, fun x => if x = ah_n h then ((-13 : Int), K) else if ah_n h < x ∧ x ≤ ah_n h + K then (-1, n) else ah_t h x, X, Y) (ah_n h) = ((-13 : Int), K) := fun M X Y => if_pos rfl
          unfold cellA
          erw [et]
          refine ⟨H.size, cA, .array .int, S.1.next, rfl, c3, by dsimp only; omega, ?_, hAO, hfA, fun i _ => trivial⟩
          rw [hout]
          refine congrArg some (arrV_ext (fun j hj => ?_))
          show Value.ref (H.size + 1 + j) = cr G (if ah_n h = ah_n h then (if 0 ≤ (j : Int) ∧ (j : Int) < K then ah_n h + 1 + j else 0) else _)
          rw [if_pos rfl, if_pos (by omega), cr_pos (by omega), show G.1 + ((ah_n h + 1 + (j : Int)).toNat - 1) = H.size + 1 + j by omega]
        · by_cases z2 : ah_n h < z ∧ z ≤ ah_n h + K
          · have et : ∀ (M : Int → Int → Int) (X Y : Int), ah_t (M, fun x => if x = ah_n h then ((-13 : Int), K) else if ah_n h < x ∧ x ≤ ah_n h + K then (-1, n) else ah_t h x, X, Y) z = ((-1 : Int), n) := fun M X Y => by
              show (if z = ah_n h then ((-13 : Int), K) else if ah_n h < z ∧ z ≤ ah_n h + K then (-1, n) else ah_t h z) = _
              rw [if_neg z1, if_pos z2]
            have em : ∀ y : Int, (if z = ah_n h then (if 0 ≤ y ∧ y < K then ah_n h + 1 + y else 0) else if ah_n h ≤ z then 0 else ah_m h z y) = 0 := fun y => by rw [if_neg z1, if_pos (by omega)]
            unfold cellA
            erw [et]
            refine ⟨H.size + 1 + (z - ah_n h - 1).toNat, comp, .int, ?_, rfl, c1, by dsimp only; omega, ?_, hAI, hfC, fun i _ => Eq.mpr (congrArg (inR _) (em i)) (inR_0 _)⟩
            · rw [cr_pos (by omega), show G.1 + (z.toNat - 1) = H.size + 1 + (z - ah_n h - 1).toNat by omega]
            · rw [hinn _ (by omega)]
              exact congrArg some (congrArg (arrV comp _) (funext fun i => ((congrArg (cf G .int) (em i)).trans rfl).symm))
          · rw [if_neg z1, if_neg z2] at hz
            have hzl := hlt9 z (by omega)
            have et : ∀ (M : Int → Int → Int) (X Y : Int), ah_t (M, fun x => if x = ah_n h then ((-13 : Int), K) else if ah_n h < x ∧ x ≤ ah_n h + K then (-1, n) else ah_t h x, X, Y) z = ah_t h z := fun M X Y => by
              show (if z = ah_n h then ((-13 : Int), K) else if ah_n h < z ∧ z ≤ ah_n h + K then (-1, n) else ah_t h z) = _
              rw [if_neg z1, if_neg z2]
            have em : ∀ y : Int, (if z = ah_n h then (if 0 ≤ y ∧ y < K then ah_n h + 1 + y else 0) else if ah_n h ≤ z then 0 else ah_m h z y) = ah_m h z y := fun y => by rw [if_neg z1, if_neg (by omega)]
            obtain ⟨q2, cA2, ty, b1, b2, b3, b4, b5, b6, b7, b8⟩ := a5 z hz
            unfold cellA
            erw [et]
            have hlt : q2 < H.size := (Array.getElem?_eq_some_iff.mp b5).1
            refine ⟨q2, cA2, ty, b1, b2, b3, b4, ?_, b6, b7, fun k hk => Eq.mpr (congrArg (inR _) (em k)) (b8 k hk)⟩
            rw [hold q2 hlt, b5]
            exact congrArg some (congrArg (arrV cA2 _) (funext fun i => congrArg _ (em i).symm))
      · intro x hx9
        obtain ⟨cf1, kf, fi, f, a9, cell, d1, d2, d3, d4, d5, d6, d7, d8⟩ := a6 x hx9
        exact ⟨cf1, kf, fi, f, a9, cell, d1, d2, d3, d4, by rw [hold a9 (Array.getElem?_eq_some_iff.mp d5).1]; exact d5, d6, d7, d8⟩
      · show n0 ≤ ah_n h + 1 + K ∧ cells + 1 + K.toNat = (ah_n h + 1 + K - n0).toNat
        omega
      · show s0 ≤ ah_s h + K + K * n ∧ slots + K.toNat + K.toNat * n.toNat = (ah_s h + K + K * n - s0).toNat
        omega
    · cases hs1
  · cases hs1
end MULTI
