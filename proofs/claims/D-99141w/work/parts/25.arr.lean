section ARR
variable {own : String} {cc : ByteArray} {nL : Nat} {nm : String} {pc : Nat} {a b : Int} {t : List (Int × Int)} {x : AI}
theorem clampI {i : Int} (h : r32 i) : (Int32.ofInt i).toNatClampNeg = i.toNat := by
  rw [← Int32.toNat_toInt, t32 h]
theorem inI {i : Int} {n : Nat} (h : r32 i) (h0 : 0 ≤ i) (h1 : i < n) : ¬ (Int32.ofInt i < 0 ∨ n ≤ (Int32.ofInt i).toNatClampNeg) := by
  rw [clampI h, show (0 : Int32) = Int32.ofInt 0 from rfl, i32_lt h (by unfold r32; omega)]
  omega
theorem sh_ald {ta kd : Int} {ty : FieldType} (hs : ∀ L st h, sem1 x L st h = aLd ta kd L st h) (hta : ta < 0) (hty : aty ta = some ty) (hkd : kdT ty = kd)
    (row : ∀ {p : Program} {l : Launch} {e : Env} {R : Room} {s : State} {m : MethodId} {args : Array Value} {below : List Frame} {meth : Method} {c : Code} {H : Heap} {locs : List Jvm.Loc} {cells slots : Nat} {Q : State → Prop} {ls : Array Slot} {rest : List Value} {q : Nat} {cell : Cell} {j : Int32} {v : Value}, p.tables.exec = Jvm.exec → c.code = cc → H[q]? = some cell → s.isArrayOf cell ty → cell.vm ≠ .unknown → ¬ (j < 0 ∨ cell.slots.size ≤ j.toNatClampNeg) → cell.slots[j.toNatClampNeg]? = some v → W p l e R s m args below meth c H locs cells slots Q (F0 m (pc + 1) ls (v :: rest)) → W p l e R s m args below meth c H locs cells slots Q (F0 m pc ls (.int j :: .ref q :: rest))) : StepOk own cc nL nm pc 1 x := by
  intro G d p l e R s m args below meth c C n0 s0 L st h L' st' h' hs1 h1 h2 H locs cells slots ls sv Q S k
  rw [hs] at hs1
  unfold aLd at hs1
  split at hs1
  · rename_i i z st2
    split at hs1
    · rename_i hc
      obtain ⟨c1, c2, c3⟩ := hc
      cases hs1
      have hw := S.2.2.2.2.2.2
      have ri : r32 i := wf_h hw
      obtain ⟨q, cA, ty', b1, b2, b3, b4, b5, b6, b7, b8⟩ := S.1.2.2.2.2.1 z (by rw [c1]; exact hta)
      obtain rfl : ty = ty' := Option.some.inj (hty.symm.trans (by rw [← c1]; exact b2))
      have e1 : ((i.toNat : Nat) : Int) = i := by omega
      have k9 := k _ _ _ _ _ _ (S.stk (ofK kd (ah_m h z i) :: st2) (wf_c (by rw [← hkd, ← e1]; exact wf_ofK (b8 _ (by omega))) (wf_t (wf_t hw))))
      rw [S.2.2.2.2.2.1, List.map_cons, List.map_cons, show cv G (.inr (.inr z)) = .ref q from b1]
      rw [List.map_cons] at k9
      refine row C.1 C.2.1 b5 (b6 _ _) (by unfold arrV; exact fun h => by cases h) (by rw [arrV_size]; exact inI ri c2 (by omega)) ?_ k9
      rw [clampI ri, arrV_read _ _ (by omega), cf_cv, hkd, e1]
    · cases hs1
  · cases hs1
theorem ok_iaload (hd : decode cc pc = .ok (.iaload, 1)) : StepOk own cc nL nm pc 1 (.iaload, a, b, t) :=
  sh_ald (fun _ _ _ => rfl) (by decide) (by decide) rfl (fun hx hb h1 h2 h3 h4 h5 k => W.iald hx hb h1 h2 h3 h4 h5 (g := F0 _ pc _ _) rfl rfl hd k)
theorem ok_baload (hd : decode cc pc = .ok (.baload, 1)) : StepOk own cc nL nm pc 1 (.baload, a, b, t) :=
  sh_ald (fun _ _ _ => rfl) (by decide) (by decide) rfl (fun hx hb h1 h2 h3 h4 h5 k => W.bald hx hb h1 h2 h3 h4 h5 (g := F0 _ pc _ _) rfl rfl hd k)
theorem ok_caload (hd : decode cc pc = .ok (.caload, 1)) : StepOk own cc nL nm pc 1 (.caload, a, b, t) :=
  sh_ald (fun _ _ _ => rfl) (by decide) (by decide) rfl (fun hx hb h1 h2 h3 h4 h5 k => W.cald hx hb h1 h2 h3 h4 h5 (g := F0 _ pc _ _) rfl rfl hd k)
theorem ok_laload (hd : decode cc pc = .ok (.laload, 1)) : StepOk own cc nL nm pc 1 (.laload, a, b, t) :=
  sh_ald (fun _ _ _ => rfl) (by decide) (by decide) rfl (fun hx hb h1 h2 h3 h4 h5 k => W.lald hx hb h1 h2 h3 h4 h5 (g := F0 _ pc _ _) rfl rfl hd k)
theorem ok_aaload {ty : FieldType} (hd : decode cc pc = .ok (.aaload, 1)) (ha : a < 0) (hty : aty a = some ty) (hr : ty.isReference = true) (hkd : kdT ty = 2) : StepOk own cc nL nm pc 1 (.aaload, a, b, t) :=
  sh_ald (fun _ _ _ => rfl) ha hty hkd (fun hx hb h1 h2 h3 h4 h5 k => W.aald hx hb h1 h2 hr h3 h4 h5 (g := F0 _ pc _ _) rfl rfl hd k)
theorem ok_alen (hd : decode cc pc = .ok (.arraylength, 1)) : StepOk own cc nL nm pc 1 (.arraylength, a, b, t) := by
  intro G d p l e R s m args below meth c C n0 s0 L st h L' st' h' hs1 h1 h2 H locs cells slots ls sv Q S k
  simp only [sem1] at hs1
  split at hs1
  · rename_i z st2
    split at hs1
    · rename_i hc
      cases hs1
      have hw := S.2.2.2.2.2.2
      obtain ⟨q, cA, ty', b1, b2, b3, b4, b5, b6, b7, b8⟩ := S.1.2.2.2.2.1 z hc
      have k9 := k _ _ _ _ _ _ (S.stk (.inl (ah_t h z).2 :: st2) (wf_c (by show r32 _; unfold r32; omega) (wf_t hw)))
      rw [S.2.2.2.2.2.1, List.map_cons, show cv G (.inr (.inr z)) = .ref q from b1]
      rw [List.map_cons] at k9
      refine W.alen C.1 C.2.1 b5 (b6 _ _) ?_ (g := F0 _ pc _ _) rfl rfl hd k9
      rw [arrV_size]
      show Int32.ofNat _ = Int32.ofInt _
      rw [← Int32.ofInt_eq_ofNat]
      congr 1
      omega
    · cases hs1
  · cases hs1
theorem sh_ast {ta kd : Int} {f : Int → Int} {ty : FieldType} (hs : ∀ L st h, sem1 x L st h = aSt ta kd f L st h) (hta : ta < 0) (hty : aty ta = some ty) (hr : ∀ v y, wfv v → toK kd v = some y → inR ty (f y))
    (row : ∀ {G : GG} {p : Program} {l : Launch} {e : Env} {R : Room} {s : State} {m : MethodId} {args : Array Value} {below : List Frame} {meth : Method} {c : Code} {H : Heap} {locs : List Jvm.Loc} {cells slots : Nat} {Q : State → Prop} {ls : Array Slot} {rest : List Value} {q : Nat} {cell : Cell} {j : Int32} {v : AV} {y : Int}, p.tables.exec = Jvm.exec → c.code = cc → wfv v → toK kd v = some y → H[q]? = some cell → s.isArrayOf cell ty → cell.vm ≠ .unknown → ¬ (j < 0 ∨ cell.slots.size ≤ j.toNatClampNeg) →
      (∀ H' : Heap, H'[q]? = some (cell.setSlot j.toNatClampNeg (cf G ty (f y))) → H'.size = H.size → (∀ u, u ≠ q → H'[u]? = H[u]?) → W p l e R s m args below meth c H' (locs ++ [⟨q, j.toNatClampNeg⟩]) cells slots Q (F0 m (pc + 1) ls rest)) → W p l e R s m args below meth c H locs cells slots Q (F0 m pc ls (cv G v :: .int j :: .ref q :: rest))) : StepOk own cc nL nm pc 1 x := by
  intro G d p l e R s m args below meth c C n0 s0 L st h L' st' h' hs1 h1 h2 H locs cells slots ls sv Q S k
  rw [hs] at hs1
  unfold aSt at hs1
  split at hs1
  · rename_i v i z st2
    split at hs1
    · rename_i y hy
      split at hs1
      · rename_i hc
        obtain ⟨c0, c1, c2, c3⟩ := hc
        cases hs1
        have hw := S.2.2.2.2.2.2
        have ri : r32 i := wf_h (wf_t hw)
        have hE := C.2.2.2.2.2.1.hE
        obtain ⟨q, cA, ty', b1, b2, b3, b4, b5, b6, b7, b8⟩ := S.1.2.2.2.2.1 z (by rw [c1]; exact hta)
        obtain rfl : ty = ty' := Option.some.inj (hty.symm.trans (by rw [← c1]; exact b2))
        have e1 : ((i.toNat : Nat) : Int) = i := by omega
        rw [S.2.2.2.2.2.1, List.map_cons, List.map_cons, List.map_cons, show cv G (.inr (.inr z)) = .ref q from b1]
        refine row C.1 C.2.1 (wf_h hw) hy b5 (b6 _ _) (by unfold arrV; exact fun h => by cases h) (by rw [arrV_size]; exact inI ri c2 (by omega)) (fun H1 g1 g2 g3 => ?_)
        refine k _ _ _ _ _ _ (S.wr (h' := ah_w h z i (f y)) hE c0 b1 g2 g3 rfl rfl (fun _ => rfl) (fun y k hy => if_neg (fun q9 => hy q9.1)) (fun h9 => absurd h9 (by omega)) (fun _ => ?_) _ (wf_t (wf_t (wf_t hw))))
        refine ⟨q, cA, ty, b1, b2, b3, b4, ?_, b6, b7, fun j hj => ?_⟩
        · rw [g1, arrV_store, clampI ri]
          refine congrArg some (congrArg (arrV cA _) (funext fun j => ?_))
          unfold updV
          show _ = cf G ty (if z = z ∧ (j : Int) = i then f y else ah_m h z j)
          by_cases e : j = i.toNat
          · rw [if_pos e, if_pos ⟨rfl, by omega⟩]
          · rw [if_neg e, if_neg (fun q9 => e (by omega))]
        · show inR ty (if z = z ∧ (j : Int) = i then f y else ah_m h z j)
          by_cases e : (j : Int) = i
          · rw [if_pos ⟨rfl, e⟩]; exact hr v y (wf_h hw) hy
          · rw [if_neg (fun q9 => e q9.2)]; exact b8 j hj
      · cases hs1
    · cases hs1
  · cases hs1
theorem toK0 {v : AV} {y : Int} (h : toK 0 v = some y) : v = .inl y := by
  match v, h with
  | .inl z, h => simp [toK] at h; rw [h]
theorem toK1 {v : AV} {y : Int} (h : toK 1 v = some y) : v = .inr (.inl y) := by
  match v, h with
  | .inl z, h => simp [toK] at h
  | .inr (.inl z), h => simp [toK] at h; rw [h]
theorem nar16 {z : Int} (h : r32 z) : narrow .char (.int (Int32.ofInt z)) = .int (Int32.ofInt (w16 z)) := by
  rw [← i2c_eq h]
  show Value.int (Int32.ofInt z).toUInt32.toUInt16.toUInt32.toInt32 = _
  congr 2
theorem ok_iastore (hd : decode cc pc = .ok (.iastore, 1)) : StepOk own cc nL nm pc 1 (.iastore, a, b, t) :=
  sh_ast (ty := .int) (fun _ _ _ => rfl) (by decide) (by decide) (fun v y hv h => by have := toK0 h; subst this; exact hv)
    (fun hx hb hv hy h1 h2 h3 h4 k => by have := toK0 hy; subst this; exact W.iast hx hb h1 h2 h3 h4 (g := F0 _ pc _ _) rfl rfl hd k)
theorem ok_lastore (hd : decode cc pc = .ok (.lastore, 1)) : StepOk own cc nL nm pc 1 (.lastore, a, b, t) :=
  sh_ast (ty := .long) (fun _ _ _ => rfl) (by decide) (by decide) (fun v y hv h => by have := toK1 h; subst this; exact hv)
    (fun hx hb hv hy h1 h2 h3 h4 k => by have := toK1 hy; subst this; exact W.last hx hb h1 h2 h3 h4 (g := F0 _ pc _ _) rfl rfl hd k)
theorem ok_bastore (hd : decode cc pc = .ok (.bastore, 1)) : StepOk own cc nL nm pc 1 (.bastore, a, b, t) :=
  sh_ast (ty := .byte) (fun _ _ _ => rfl) (by decide) (by decide) (fun v y hv h => by show -128 ≤ w8 y ∧ w8 y < 128; unfold w8; omega)
    (fun hx hb hv hy h1 h2 h3 h4 k => by
      have := toK0 hy; subst this
      refine W.bast hx hb h1 h2 h3 h4 (g := F0 _ pc _ _) rfl rfl hd (fun H' g1 g2 g3 => k H' ?_ g2 g3)
      rw [g1]
      show some (Cell.setSlot _ _ (Value.int _)) = _
      rw [i2b_eq]
      rfl)
theorem ok_castore (hd : decode cc pc = .ok (.castore, 1)) : StepOk own cc nL nm pc 1 (.castore, a, b, t) :=
  sh_ast (ty := .char) (fun _ _ _ => rfl) (by decide) (by decide) (fun v y hv h => by show 0 ≤ w16 y ∧ w16 y < 65536; unfold w16; omega)
    (fun hx hb hv hy h1 h2 h3 h4 k => by
      have := toK0 hy; subst this
      refine W.cast hx hb h1 h2 h3 h4 (g := F0 _ pc _ _) rfl rfl hd (fun H' g1 g2 g3 => k H' ?_ g2 g3)
      rw [g1, nar16 hv]
      rfl)
end ARR
