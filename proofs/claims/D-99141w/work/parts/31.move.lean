/-! ===== the relation under another state of the tables; what grows ===== -/
theorem RH.moved {G : GG} {u U : State} {h : AH} {H : Heap} (hvm : u.vm.Alike U.vm) (S : RH G u h H) : RH G U h H := by
  obtain ⟨a1, a2, a3, a4, a5, a6⟩ := S
  refine ⟨a1, a2, a3, a4, fun z hz => ?_, fun x hx => (a6 x hx).moved hvm⟩
  obtain ⟨q, cA, ty, b1, b2, b3, b4, b5, b6, b7, b8⟩ := a5 z hz
  exact ⟨q, cA, ty, b1, b2, b3, b4, b5, arrOfT_moved hvm b6, b7.moved hvm, b8⟩
theorem AOI.moved {u U : State} (hvm : u.vm.Alike U.vm) (h : (Cond.arrayOver (.array .int)).before #[] u = true) : (Cond.arrayOver (.array .int)).before #[] U = true := by
  unfold Cond.before Cond.holds at h ⊢
  simp only [Cond.value, beq_iff_eq] at h ⊢
  rw [hvm.findClass]
  cases hc : u.vm.findClass (FieldType.array FieldType.int).toString with
  | none => rw [hc] at h; simp at h
  | some comp =>
    rw [hc] at h
    rw [Option.bind_some] at h ⊢
    obtain ⟨c, h2, h3⟩ := Option.bind_eq_some_iff.mp h
    obtain ⟨k, h3, h4⟩ := Option.map_eq_some_iff.mp h3
    obtain ⟨k', hk', he⟩ := hvm.2.2 _ _ h3
    have hi : (U.vm.classes.findIdx? fun (x : Class) => match x.kind with | .array component _ => component == comp | _ => false) = some c := by
      have g1 := va_idx_bare u.vm comp
      have g2 := va_idx_bare U.vm comp
      first | rw [hvm.bare_eq] at g2 | rw [← hvm.bare_eq] at g2
      exact (g2.symm.trans g1).trans h2
    refine Option.bind_eq_some_iff.mpr ⟨c, hi, Option.map_eq_some_iff.mpr ⟨k', hk', ?_⟩⟩
    rw [he, hvm.findClass]
    exact h4
theorem KS.warm {G : GG} {s U : State} (hW : s.WarmedH U.vm) (h : KS G s) : KS G U := by
  obtain ⟨a1, a2, ⟨a3, a4, a5⟩, ⟨a6, a7, a8, a9⟩, a10, ⟨mi, a11, a12⟩, a13, a14⟩ := h
  refine ⟨va_K.moved hW.alike a1, fun w hw hn => ?_, ⟨a3.moved (by decide) hW.alike, a4.moved (by decide) hW.alike, a5.moved (by decide) hW.alike⟩, ⟨a6.moved hW.alike, a7.moved hW.alike, a8.moved hW.alike, AOI.moved hW.alike a9⟩, fun x hx => ?_, ⟨mi, a11, a12.moved hW.alike⟩, a13, a14⟩
  · have := a2 w hw hn
    cases w with
    | fieldLinkNest => exact va_Nw.warmF hW this
    | methodLinkNest => exact va_Nw.warmM hW this
    | castable => exact va_Nw.warmC hW this
    | declares => exact va_Nw.warmD hW this
    | _ => cases hn
  · obtain ⟨q, e1, e2⟩ := a10 x hx
    exact ⟨q, e1, e2.warm hW⟩
theorem KS.calling {G : GG} {U : State} {g : JFrame} {mk : MethodId} {a : Array Value} (h : KS G U) : KS G (U.calling g mk a) := by
  obtain ⟨a1, a2, ⟨a3, a4, a5⟩, ⟨a6, a7, a8, a9⟩, a10, ⟨mi, a11, a12⟩, a13, a14⟩ := h
  have hr : U.vm.Alike (U.calling g mk a).vm := Vm.Alike.refl U.vm
  refine ⟨va_K.moved hr a1, fun w hw hn => va_Nw.same (u := U) ?_ rfl (a2 w hw hn), ⟨a3.moved (by decide) hr, a4.moved (by decide) hr, a5.moved (by decide) hr⟩, ⟨a6.moved hr, a7.moved hr, a8.moved hr, AOI.moved hr a9⟩, fun x hx => ?_, ⟨mi, a11, a12.moved hr⟩, a13, a14⟩
  · cases w <;> first | rfl | cases hn
  · obtain ⟨q, e1, e2⟩ := a10 x hx
    exact ⟨q, e1, e2.same rfl⟩
theorem aLd_n {ta kd : Int} {L : ALoc} {st : AStk} {h : AH} {L' : ALoc} {st' : AStk} {h' : AH} (e : aLd ta kd L st h = some (L', st', h')) : h' = h := by
  unfold aLd at e
  split at e
  · split at e
    · cases e; rfl
    · cases e
  · cases e
theorem aSt_n {ta kd : Int} {f : Int → Int} {L : ALoc} {st : AStk} {h : AH} {L' : ALoc} {st' : AStk} {h' : AH} (e : aSt ta kd f L st h = some (L', st', h')) : h'.2.2 = h.2.2 := by
  unfold aSt at e
  split at e
  · split at e
    · split at e
      · cases e; rfl
      · cases e
    · cases e
  · cases e
def Gr (h h' : AH) : Prop := ah_n h ≤ ah_n h' ∧ ah_s h ≤ ah_s h'
theorem Gr.refl (h : AH) : Gr h h := ⟨Int.le_refl _, Int.le_refl _⟩
theorem Gr.trans {h h1 h2 : AH} (a : Gr h h1) (b : Gr h1 h2) : Gr h h2 := ⟨Int.le_trans a.1 b.1, Int.le_trans a.2 b.2⟩
theorem Gr.of {h h' : AH} (e : h'.2.2 = h.2.2) : Gr h h' := ⟨by unfold ah_n; rw [e]; exact Int.le_refl _, by unfold ah_s; rw [e]; exact Int.le_refl _⟩
theorem Gr.new {h : AH} {t : Int × Int} {N : Int} (hN : 0 ≤ N) : Gr h (ah_new h t N) := ⟨by show ah_n h ≤ ah_n h + 1; omega, by show ah_s h ≤ ah_s h + N; omega⟩
set_option maxHeartbeats 2000000 in
theorem sem1_gr {x : AI} {L : ALoc} {st : AStk} {h : AH} {L' : ALoc} {st' : AStk} {h' : AH} (e : sem1 x L st h = some (L', st', h')) : Gr h h' := by
  obtain ⟨i, a, b, t⟩ := x
  cases i
  all_goals simp only [sem1] at e
  all_goals first
    | (cases e; done)
    | (cases e; exact Gr.refl _)
    | (unfold ld0 at e; split at e <;> cases e; exact Gr.refl _)
    | (unfold ld1 at e; split at e <;> cases e; exact Gr.refl _)
    | (unfold ld2 at e; split at e <;> cases e; exact Gr.refl _)
    | (unfold st0 at e; split at e <;> cases e; exact Gr.refl _)
    | (unfold st1 at e; split at e <;> cases e; exact Gr.refl _)
    | (unfold st2 at e; split at e <;> cases e; exact Gr.refl _)
    | (unfold bI at e; split at e <;> cases e; exact Gr.refl _)
    | (unfold bL at e; split at e <;> cases e; exact Gr.refl _)
    | (rw [aLd_n e]; exact Gr.refl _)
    | exact Gr.of (aSt_n e)
    | (cases e; exact Gr.new (by omega))
    | (repeat' split at e
       all_goals first
         | (cases e; done)
         | (cases e; exact Gr.refl _)
         | (cases e; exact Gr.of rfl)
         | (cases e; exact Gr.new (by omega))
         | (rename_i hc; cases e; refine ⟨?_, ?_⟩
            · show ah_n h ≤ ah_n h + 1 + _
              omega
            · show ah_s h ≤ ah_s h + _ + _ * _
              have := Int.mul_nonneg hc.2.2.1 hc.1
              omega))
theorem semCopy_gr {t : List (Int × Int)} {L : ALoc} {st : AStk} {h : AH} {L' : ALoc} {st' : AStk} {h' : AH} (e : semCopy t L st h = some (L', st', h')) : Gr h h' := by
  unfold semCopy at e
  split at e
  · split at e
    · cases e; exact Gr.of rfl
    · cases e
  · cases e
