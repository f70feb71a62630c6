/-! ===== references: casts, arrays of references, constants ===== -/
def tgName (tg : Int) : Option String := if 0 < tg then (gcl[tg.toNat - 1]?).map (fun r => r.1) else (aty tg).map (fun ty => "[" ++ ty.toString)
theorem ra_name {s : State} {cA : ClassId} {ty : FieldType} (h : va_RA s cA ty) : s.vm.findClass ("[" ++ ty.toString) = some cA := by
  cases ty with
  | object C => obtain ⟨kA, comp, h1, h2, h3, h4⟩ := h; exact h4
  | _ => exact h
theorem cls_of {G : GG} {s : State} {h : AH} {H : Heap} {z : Int} {C : String} (S : RH G s h H) (K : KS G s) (h0 : (ah_t h z).1 ≠ 0) (hn : tgName (ah_t h z).1 = some C) : ∃ (q : Nat) (cell : Cell), cr G z = .ref q ∧ H[q]? = some cell ∧ cell.vm.isStatics = false ∧ s.vm.findClass C = some cell.cls ∧ ∃ k, s.vm.classes[cell.cls]? = some k := by
  unfold tgName at hn
  split at hn
  · rename_i hp
    obtain ⟨q, r, b1, b2, ⟨cell, g1, g2, g3, g4⟩, b4⟩ := S.2.2.2.1 z hp
    rw [b2] at hn
    cases hn
    obtain ⟨-, hfc, kC, hkC, -⟩ := K.1.1 _ _ b2
    exact ⟨q, cell, b1, g1, by rw [g3]; rfl, by rw [g2]; exact hfc, kC, by rw [g2]; exact hkC⟩
  · rename_i hp
    obtain ⟨q, cA, ty, b1, b2, b3, b4, b5, b6, b7, b8⟩ := S.2.2.2.2.1 z (by omega)
    rw [b2] at hn
    cases hn
    obtain ⟨-, k, hk, -⟩ := b6 0 (fun _ => .null)
    exact ⟨q, _, b1, b5, rfl, ra_name b7, k, hk⟩
def Asg (C E : String) : Prop := C = E ∨ Cond.castable C E ∈ lw_tbl
theorem Asg.use {G : GG} {s : State} (K : KS G s) {C E : String} {c : ClassId} (h : Asg C E) (hc : s.vm.findClass C = some c) : ∃ cT, s.vm.findClass E = some cT ∧ s.vm.assignable c cT = true := by
  rcases h with rfl | h
  · exact ⟨c, hc, va_asg _ _⟩
  · obtain ⟨c0, t0, f1, f2, f3⟩ := Cond.castable_spec (va_Nw.use (A := #[]) rfl (K.2.1 _ h rfl))
    cases hc.symm.trans f1
    exact ⟨t0, f2, f3⟩
section REF
variable {own : String} {cc : ByteArray} {nL : Nat} {nm : String} {pc : Nat} {a b : Int} {t : List (Int × Int)} {x : AI}
theorem ok_checkcast {idx : Nat} {E : String} (hd : decode cc pc = .ok (.checkcast idx, 3)) (w : Cond.classLink own idx E ∈ lw_all) (ht : ∀ x ∈ t, x.1 ≠ 0 ∧ ∃ C, tgName x.1 = some C ∧ Asg C E) : StepOk own cc nL nm pc 3 (.checkcast idx, a, b, t) := by
  intro G d p l e R s m args below meth c C n0 s0 L st h L' st' h' hs1 h1 h2 H locs cells slots ls sv Q S k
  simp only [sem1] at hs1
  split at hs1
  · rename_i z st2
    split at hs1
    · rename_i k1 hk1
      cases hs1
      obtain ⟨hx, hb, hml, hown, hts, hKS, hlk, hnm, hfr, hlo⟩ := C
      obtain ⟨h0, C1, hC, hA⟩ := ht _ (asc_mem hk1)
      obtain ⟨q, cell, b1, b2, b3, b4, -⟩ := cls_of S.1 hKS h0 hC
      obtain ⟨cT, f1, f2⟩ := hA.use hKS b4
      have k9 := k _ _ _ _ _ _ S
      rw [S.2.2.2.2.2.1, List.map_cons, show cv G (.inr (.inr z)) = .ref q from b1] at k9 ⊢
      intro T hT X
      obtain ⟨vm', X', st⟩ := X.checkcastYes hx hown (hts _ w) (by rw [hT]; exact b2) b3 f1 f2 (g := F0 m pc ls (.ref q :: st2.map (cv G))) rfl rfl (by rw [hb]; exact hd)
      obtain ⟨t9, a1, b9⟩ := k9 (T.setVm vm') hT X'
      exact ⟨t9, st t9 a1, b9⟩
    · cases hs1
  · cases hs1
theorem ok_instanceof {idx : Nat} {E : String} (hd : decode cc pc = .ok (.instanceof idx, 3)) (w : Cond.classLink own idx E ∈ lw_all) (ht : ∀ x ∈ t, x.1 ≠ 0 ∧ x.2 = 1 ∧ ∃ C, tgName x.1 = some C ∧ Asg C E) : StepOk own cc nL nm pc 3 (.instanceof idx, a, b, t) := by
  intro G d p l e R s m args below meth c C n0 s0 L st h L' st' h' hs1 h1 h2 H locs cells slots ls sv Q S k
  simp only [sem1] at hs1
  split at hs1
  · rename_i z st2
    split at hs1
    · rename_i k1 hk1
      cases hs1
      obtain ⟨hx, hb, hml, hown, hts, hKS, hlk, hnm, hfr, hlo⟩ := C
      obtain ⟨h0, h01, C1, hC, hA⟩ := ht _ (asc_mem hk1)
      dsimp only at h01
      subst h01
      obtain ⟨q, cell, b1, b2, b3, b4, -⟩ := cls_of S.1 hKS h0 hC
      obtain ⟨cT, f1, f2⟩ := hA.use hKS b4
      have k9 := k _ _ _ _ _ _ (S.stk (.inl 1 :: st2) (wf_c (by show r32 1; unfold r32; omega) (wf_t S.2.2.2.2.2.2)))
      rw [S.2.2.2.2.2.1, List.map_cons, show cv G (.inr (.inr z)) = .ref q from b1]
      rw [List.map_cons] at k9
      intro T hT X
      obtain ⟨vm', X', st⟩ := X.instanceofYes hx hown (hts _ w) (by rw [hT]; exact b2) b3 f1 f2 (g := F0 m pc ls (.ref q :: st2.map (cv G))) rfl rfl (by rw [hb]; exact hd)
      obtain ⟨t9, a1, b9⟩ := k9 (T.setVm vm') hT X'
      exact ⟨t9, st t9 a1, b9⟩
    · cases hs1
  · cases hs1
/-- the component of an array of references, by its name -/
def cmpN (ta : Int) : Option String := if ta = -10 then some "java/lang/Object" else if ta = -11 then some "GardenChess$Moves" else if ta = -12 then some "GardenChess$State" else if ta = -13 then some "[I" else none
theorem cmp_of {G : GG} {s : State} (K : KS G s) {ta : Int} {E : String} {ty : FieldType} {cA : ClassId} (hE : cmpN ta = some E) (hty : aty ta = some ty) (hR : va_RA s cA ty) : ty.isReference = true ∧ kdT ty = 2 ∧ ∃ (kA : Class) (comp : ClassId), s.vm.classes[cA]? = some kA ∧ kA.kind = .array comp ty ∧ s.vm.findClass E = some comp := by
  unfold cmpN at hE
  repeat' split at hE
  · rename_i h; subst h; cases hE
    obtain rfl : FieldType.object "java/lang/Object" = ty := Option.some.inj hty
    obtain ⟨kA, comp, h1, h2, h3, -⟩ := hR
    exact ⟨rfl, rfl, kA, comp, h1, h2, h3⟩
  · rename_i h; subst h; cases hE
    obtain rfl : FieldType.object "GardenChess$Moves" = ty := Option.some.inj hty
    obtain ⟨kA, comp, h1, h2, h3, -⟩ := hR
    exact ⟨rfl, rfl, kA, comp, h1, h2, h3⟩
  · rename_i h; subst h; cases hE
    obtain rfl : FieldType.object "GardenChess$State" = ty := Option.some.inj hty
    obtain ⟨kA, comp, h1, h2, h3, -⟩ := hR
    exact ⟨rfl, rfl, kA, comp, h1, h2, h3⟩
  · rename_i h; subst h; cases hE
    obtain rfl : FieldType.array .int = ty := Option.some.inj hty
    obtain ⟨comp, c, k, f1, f2, f3, f4⟩ := Cond.arrayOver_specA K.2.2.2.1.2.2.2
    have hR : s.vm.findClass ("[" ++ (FieldType.array .int).toString) = some cA := hR
    cases hR.symm.trans f4
    exact ⟨rfl, rfl, k, comp, f2, f3, f1⟩
  · cases hE
theorem ok_aastore {E : String} (hd : decode cc pc = .ok (.aastore, 1)) (ha : a < 0) (hE1 : cmpN a = some E) (ht : ∀ x ∈ t, x.1 ≠ 0 ∧ ∃ C, tgName x.1 = some C ∧ Asg C E) : StepOk own cc nL nm pc 1 (.aastore, a, b, t) := by
  intro G d p l e R s m args below meth c C n0 s0 L st h L' st' h' hs1 h1 h2 H locs cells slots ls sv Q S k
  simp only [sem1] at hs1
  split at hs1
  · rename_i x i z st2
    split at hs1
    · rename_i k1 hk1
      split at hs1
      · rename_i hc
        obtain ⟨c0, c1, c2, c3⟩ := hc
        cases hs1
        obtain ⟨hx, hb, hml, hown, hts, hKS, hlk, hnm, hfr, hlo⟩ := C
        have hw := S.2.2.2.2.2.2
        have ri : r32 i := wf_h (wf_t hw)
        have hE := hKS.hE
        obtain ⟨g0, C1, hC, hA⟩ := ht _ (asc_mem hk1)
        obtain ⟨q', cell', d1, d2, d3, d4, kv, d5⟩ := cls_of S.1 hKS g0 hC
        obtain ⟨cT, f1, f2⟩ := hA.use hKS d4
        obtain ⟨q, cA, ty, b1, b2, b3, b4, b5, b6, b7, b8⟩ := S.1.2.2.2.2.1 z (by rw [c1]; exact ha)
        rw [c1] at b2
        obtain ⟨href, hkd, kA, comp, e1, e2, e3⟩ := cmp_of hKS hE1 b2 b7
        cases f1.symm.trans e3
        obtain ⟨kcomp, hkcomp⟩ : ∃ kcomp, s.vm.classes[cT]? = some kcomp := by obtain ⟨k9, h9, -⟩ := Vm.findClass_spec e3; exact ⟨k9, h9⟩
        have ei : ((i.toNat : Nat) : Int) = i := by omega
        rw [S.2.2.2.2.2.1, List.map_cons, List.map_cons, List.map_cons, show cv G (.inr (.inr z)) = .ref q from b1, show cv G (.inr (.inr x)) = .ref q' from d1]
        refine W.aast hx hb b5 (fun _ h => (by cases h)) (fun h => (by cases h)) e1 e2 href hkcomp ⟨?_, ?_⟩ d2 (VmData.noStatics_of d3) d5 f2 (g := F0 m pc ls _) rfl rfl hd (fun H1 g1 g2 g3 => ?_)
        · rw [show (0 : Int32) = Int32.ofInt 0 from rfl, i32_lt ri (by unfold r32; omega)]; omega
        · rw [clampI ri, arrV_size]; omega
        refine k _ _ _ _ _ _ (S.wr (h' := ah_w h z i x) hE c0 b1 g2 g3 rfl rfl (fun _ => rfl) (fun y k hy => if_neg (fun q9 => hy q9.1)) (fun h9 => absurd h9 (by omega)) (fun _ => ?_) _ (wf_t (wf_t (wf_t hw))))
        have hcf : ∀ y, cf G ty y = cr G y := fun y => by rw [cf_cv, hkd]; rfl
        have hinR : ∀ y, inR ty y := by
          intro y
          cases ty <;> first | trivial | (exact absurd href (by decide))
        refine ⟨q, cA, ty, b1, by rw [show ah_t (ah_w h z i x) z = ah_t h z from rfl, c1]; exact b2, b3, b4, ?_, b6, b7, fun j _ => hinR _⟩
        rw [g1, arrV_store, clampI ri]
        refine congrArg some (congrArg (arrV cA _) (funext fun j => ?_))
        unfold updV
        show _ = cf G ty (if z = z ∧ (j : Int) = i then x else ah_m h z j)
        by_cases e : j = i.toNat
        · rw [if_pos e, if_pos ⟨rfl, by omega⟩, hcf, d1]
        · rw [if_neg e, if_neg (fun q9 => e (by omega))]
      · cases hs1
    · cases hs1
  · cases hs1
theorem ok_newarray {ty : ArrayType} (hd : decode cc pc = .ok (.newarray ty, 2)) (h0 : ty ≠ .float ∧ ty ≠ .double ∧ ty ≠ .boolean ∧ ty ≠ .short) (w : Cond.arrayClass (newarray.typeOf ty) ∈ lw_all) : StepOk own cc nL nm pc 2 (.newarray ty, a, b, t) := by
  intro G d p l e R s m args below meth c C n0 s0 L st h L' st' h' hs1 h1 h2 H locs cells slots ls sv Q S k
  simp only [sem1] at hs1
  split at hs1
  · rename_i n st2
    split at hs1
    · rename_i hc
      cases hs1
      obtain ⟨hx, hb, hml, hown, hts, hKS, hlk, hnm, hfr, hlo⟩ := C
      have hw := S.2.2.2.2.2.2
      have rn : r32 n := wf_h hw
      have e1 : ah_n h + 1 - n0 ≤ R.cells := h1
      have e2 : ah_s h + n - s0 ≤ R.slots := h2
      have g1 := S.2.2.1
      have g2 := S.2.2.2.1
      have e3 : ((n.toNat : Nat) : Int) = n := by omega
      have hty : aty (arrT ty) = some (newarray.typeOf ty) ∧ arrT ty < 0 := by cases ty <;> simp at h0 <;> exact ⟨rfl, by decide⟩
      have hby : n.toNat * componentBytes (newarray.typeOf ty) ≤ 536870912 := by
        have : componentBytes (newarray.typeOf ty) ≤ 8 := by cases ty <;> decide
        calc n.toNat * componentBytes (newarray.typeOf ty) ≤ 100000 * 8 := Nat.mul_le_mul (by omega) this
          _ ≤ 536870912 := by decide
      have hfd : newarray.typeOf ty ≠ .float ∧ newarray.typeOf ty ≠ .double := by cases ty <;> simp at h0 <;> exact ⟨fun h => (by cases h), fun h => (by cases h)⟩
      have hra : ∀ cA, s.vm.findClass ("[" ++ (newarray.typeOf ty).toString) = some cA → va_RA s cA (newarray.typeOf ty) := by
        intro cA h9
        cases ty <;> exact h9
      rw [S.2.2.2.2.2.1, List.map_cons]
      refine va_newaK hx hb (hts _ w) (g := F0 m pc ls _) rfl hd (n := Int32.ofInt n) (N := n.toNat) rfl (by rw [show (0 : Int32) = Int32.ofInt 0 from rfl, i32_lt rn (by unfold r32; omega)]; omega) (clampI rn) hby (by omega) (by omega) rfl (fun H1 cA k1 k2 k3 k4 k5 => ?_)
      have k9 := S.nw (tg := (arrT ty, n)) (N := n.toNat) (H1 := H1) hKS.hE k2 k3 (fun h9 => absurd h9 (by have := hty.2; dsimp only; omega)) (fun _ => ?_) st2 (wf_t hw)
      · rw [e3] at k9
        exact k _ _ _ _ _ _ k9
      · have hm : ∀ k, ah_m (ah_new h (arrT ty, n) n.toNat) (ah_n h) k = 0 := fun k => if_pos rfl
        unfold cellA
        rw [show ah_t (ah_new h (arrT ty, n) n.toNat) (ah_n h) = (arrT ty, n) from if_pos rfl]
        refine ⟨H.size, cA, newarray.typeOf ty, S.1.next, hty.1, hc.1, by dsimp only; omega, ?_, k4, hra cA k5, fun i _ => by rw [hm]; exact inR_0 _⟩
        rw [k1]
        exact congrArg some (congrArg (arrV cA _) (funext fun i => by rw [hm, cf_0 G _ hfd]))
    · cases hs1
  · cases hs1
theorem ok_anewarray {idx : Nat} {E : String} (hd : decode cc pc = .ok (.anewarray idx, 3)) (hE1 : (a = -10 ∧ E = "java/lang/Object") ∨ (a = -11 ∧ E = "GardenChess$Moves") ∨ (a = -12 ∧ E = "GardenChess$State")) (w : Cond.classLink own idx E ∈ lw_all) : StepOk own cc nL nm pc 3 (.anewarray idx, a, b, t) := by
  intro G d p l e R s m args below meth c C n0 s0 L st h L' st' h' hs1 h1 h2 H locs cells slots ls sv Q S k
  simp only [sem1] at hs1
  split at hs1
  · rename_i n st2
    split at hs1
    · rename_i hc
      cases hs1
      obtain ⟨hx, hb, hml, hown, hts, hKS, hlk, hnm, hfr, hlo⟩ := C
      have hw := S.2.2.2.2.2.2
      have rn : r32 n := wf_h hw
      have e1 : ah_n h + 1 - n0 ≤ R.cells := h1
      have e2 : ah_s h + n - s0 ≤ R.slots := h2
      have g1 := S.2.2.1
      have g2 := S.2.2.2.1
      have e3 : ((n.toNat : Nat) : Int) = n := by omega
      have hao : va_AO E s := by rcases hE1 with ⟨-, rfl⟩ | ⟨-, rfl⟩ | ⟨-, rfl⟩ <;> first | exact hKS.2.2.2.1.1 | exact hKS.2.2.2.1.2.1 | exact hKS.2.2.2.1.2.2.1
      have hty : aty a = some (.object E) ∧ a < 0 := by rcases hE1 with ⟨rfl, rfl⟩ | ⟨rfl, rfl⟩ | ⟨rfl, rfl⟩ <;> exact ⟨rfl, by decide⟩
      rw [S.2.2.2.2.2.1, List.map_cons]
      refine W.anew hx hb hown (hts _ w) hao (g := F0 m pc ls _) rfl hd (n := Int32.ofInt n) rfl (by rw [show (0 : Int32) = Int32.ofInt 0 from rfl, i32_lt rn (by unfold r32; omega)]; omega) (by rw [clampI rn]; omega) (by omega) (by rw [clampI rn]; omega) (fun cA kA comp k1 k2 k3 k4 => ?_)
      rw [clampI rn, arrV_new]
      have k9 := S.nw (tg := (a, n)) (N := n.toNat) (H1 := H.push (arrV cA n.toNat (fun _ => .null))) hKS.hE (by simp) (fun y hy => by rw [Array.getElem?_push, if_neg (Nat.ne_of_lt hy)]) (fun h9 => absurd h9 (by have := hty.2; dsimp only; omega)) (fun _ => ?_) st2 (wf_t hw)
      · rw [e3] at k9
        exact k _ _ _ _ _ _ k9
      · have hm : ∀ k, ah_m (ah_new h (a, n) n.toNat) (ah_n h) k = 0 := fun k => if_pos rfl
        unfold cellA
        rw [show ah_t (ah_new h (a, n) n.toNat) (ah_n h) = (a, n) from if_pos rfl]
        refine ⟨H.size, cA, .object E, S.1.next, hty.1, hc.1, by dsimp only; omega, ?_, fun n9 z9 => ⟨fun k h => (by cases h), kA, k2, comp, k3⟩, ⟨kA, comp, k2, k3, k4, k1⟩, fun i _ => trivial⟩
        rw [Array.getElem?_push, if_pos rfl]
        exact congrArg some (congrArg (arrV cA _) (funext fun i => by rw [hm]; rfl))
    · cases hs1
  · cases hs1
end REF
