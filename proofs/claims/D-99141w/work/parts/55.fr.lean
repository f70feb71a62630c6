/-! ===== frames: what a call leaves alone; what stands of M ===== -/
def Off (W : Int → Int → Prop) (h h' : AH) : Prop := h'.2 = h.2 ∧ ∀ r i, ¬ W r i → ah_m h' r i = ah_m h r i
section FR
variable {W W' : Int → Int → Prop} {h h' h1 h2 : AH} {r k z : Int}
theorem Off_rfl : Off W h h := ⟨rfl, fun _ _ _ => rfl⟩
theorem Off_tr (a : Off W h h1) (b : Off W h1 h2) : Off W h h2 := ⟨b.1.trans a.1, fun r i hw => (b.2 r i hw).trans (a.2 r i hw)⟩
theorem Off_mono (hW : ∀ r i, W r i → W' r i) (a : Off W h h') : Off W' h h' := ⟨a.1, fun r i hw => a.2 r i (fun w => hw (hW r i w))⟩
theorem Off_w (a : Off W h h') (hW : W r k) : Off W h (ah_w h' r k z) := by
  refine ⟨a.1, fun x y hw => ?_⟩
  rw [ah_m_w]
  split
  · rename_i e; rw [e.1, e.2] at hw; exact absurd hW hw
  · exact a.2 x y hw
theorem Off_r (a : Off W h h') (hW : ∀ i, ¬ W r i) : ah_m h' r = ah_m h r := funext fun i => a.2 r i (hW i)
theorem Off_t (a : Off W h h') : ah_t h' = ah_t h := by unfold ah_t; rw [a.1]
theorem Off_n (a : Off W h h') : ah_n h' = ah_n h := by unfold ah_n; rw [a.1]
theorem Off_s (a : Off W h h') : ah_s h' = ah_s h := by unfold ah_s; rw [a.1]
/-- what of M may change without its fixed facts -/
def fre (r i : Int) : Prop := r < 1036 ∨ 1120 < r ∨ r = 1037 ∨ r = 1038 ∨ (1072 ≤ r ∧ r ≤ 1093) ∨ 1117 ≤ r ∨ (r = 1036 ∧ ((1 ≤ i ∧ i ≤ 8) ∨ i = 10 ∨ i = 44 ∨ (56 ≤ i ∧ i ≤ 61) ∨ (68 ≤ i ∧ i ≤ 73) ∨ i = 75 ∨ (77 ≤ i ∧ i ≤ 80) ∨ (84 ≤ i ∧ i ≤ 86) ∨ i = 111 ∨ (113 ≤ i ∧ i ≤ 115) ∨ (117 ≤ i ∧ i ≤ 119) ∨ i = 121))
theorem mFL_f : ∀ p ∈ mFL, ¬ fre 1036 p.1 := by unfold fre; decide
theorem mCL_f : ∀ p ∈ mCL, (1039 ≤ p.1 ∧ p.1 ≤ 1071) ∨ (1094 ≤ p.1 ∧ p.1 ≤ 1116) := by decide
theorem MI_off (hM : MI h) (a : Off W h h') (hW : ∀ r i, W r i → fre r i) : MI h' := by
  refine ⟨fun i hi => by rw [Off_t a]; exact hM.1 i hi, fun p hp => ?_, fun p hp i hi => ?_⟩
  · rw [a.2 _ _ (fun w => mFL_f p hp (hW _ _ w))]; exact hM.2.1 p hp
  · rw [a.2 _ _ (fun w => ?_)]
    · exact hM.2.2 p hp i hi
    · have g := hW _ _ w
      have g2 := mCL_f p hp
      unfold fre at g
      omega
theorem MI_w (hM : MI h) (hf : fre r k) : MI (ah_w h r k z) := MI_off (W := fre) hM (Off_w Off_rfl hf) (fun _ _ x => x)
/-- the rows of the boards (that which is read, that which stands) -/
def stt (h : AH) : Int → Int → Int := fun r i => if 1072 ≤ r ∧ r ≤ 1082 then ah_m h r i else 0
theorem stt_r (h1 : 1072 ≤ r) (h2 : r ≤ 1082) : ah_m h r = stt h r := by funext i; unfold stt; rw [if_pos ⟨h1, h2⟩]
theorem stt_off (a : Off W h h') (hW : ∀ r i, W r i → ¬ (1072 ≤ r ∧ r ≤ 1082)) : stt h' = stt h := by
  funext r i; unfold stt; split
  · rename_i g; exact a.2 r i (fun w => hW r i w g)
  · rfl
end FR
/-- bounds of the board that stands -/
def TV (T : Int → Int → Int) : Prop :=
  (0 ≤ T 1072 3 ∧ T 1072 3 ≤ 5) ∧ (0 ≤ T 1072 4 ∧ T 1072 4 ≤ 8) ∧ (0 ≤ T 1072 5 ∧ T 1072 5 ≤ 6) ∧ (0 ≤ T 1074 4 ∧ T 1074 4 ≤ 5) ∧ (0 ≤ T 1074 5 ∧ T 1074 5 ≤ 5)
  ∧ (∀ m, 0 ≤ m → m < 8 → (0 ≤ T 1076 (16 + 2 * m) ∧ T 1076 (16 + 2 * m) < 5) ∧ (T 1076 (17 + 2 * m) = 0 ∨ T 1076 (17 + 2 * m) = 1))
  ∧ (∀ k, 0 ≤ k → k < 5 → (0 ≤ T 1075 (20 + 4 * k) ∧ T 1075 (20 + 4 * k) ≤ 4) ∧ (0 ≤ T 1075 (21 + 4 * k) ∧ T 1075 (21 + 4 * k) ≤ 4) ∧ (0 ≤ T 1075 (22 + 4 * k) ∧ T 1075 (22 + 4 * k) ≤ 99) ∧ (T 1075 (23 + 4 * k) = 0 ∨ T 1075 (23 + 4 * k) = 1))
  ∧ (∀ f, 0 ≤ f → f < 6 → (0 ≤ T 1078 (18 + 3 * f) ∧ T 1078 (18 + 3 * f) < 5) ∧ (0 ≤ T 1078 (19 + 3 * f) ∧ T 1078 (19 + 3 * f) < 5) ∧ (0 ≤ T 1078 (20 + 3 * f) ∧ T 1078 (20 + 3 * f) ≤ 999))
  ∧ (0 ≤ T 1079 2 ∧ T 1079 2 ≤ 99) ∧ (0 ≤ T 1079 3 ∧ T 1079 3 ≤ 100)
  ∧ (0 ≤ T 1074 6 ∧ T 1074 6 ≤ 2) ∧ (0 ≤ T 1074 7 ∧ T 1074 7 ≤ 2)
  ∧ (∀ m, 0 ≤ m → m < T 1072 4 → T 1076 (16 + 2 * m) < T 1072 3)
/-- what a row of what is obeys: places of men, the side to move -/
def NV (T : Int → Int → Int) (nw : Int → Int) : Prop :=
  (∀ m, 0 ≤ m → m < 8 → (-1 ≤ nw (2 + 2 * m) ∧ nw (2 + 2 * m) < 5) ∧ (-1 ≤ nw (3 + 2 * m) ∧ nw (3 + 2 * m) < 5))
  ∧ (∀ m, 0 ≤ m → m < T 1072 4 → (nw (2 + 2 * m) = -1 ∧ nw (3 + 2 * m) = -1) ∨ ((0 ≤ nw (2 + 2 * m) ∧ nw (2 + 2 * m) < T 1074 4) ∧ (0 ≤ nw (3 + 2 * m) ∧ nw (3 + 2 * m) < T 1074 5)))
  ∧ (∀ m q, 0 ≤ m → m < T 1072 4 → 0 ≤ q → q < T 1072 4 → m ≠ q → nw (2 + 2 * m) ≠ -1 → ¬ (nw (2 + 2 * m) = nw (2 + 2 * q) ∧ nw (3 + 2 * m) = nw (3 + 2 * q)))
  ∧ (nw 1 = 0 ∨ nw 1 = 1)
/-- M in a heap: its board, what is -/
def MG (T : Int → Int → Int) (nw : Int → Int) (h : AH) : Prop := MI h ∧ stt h = T ∧ ah_m h 1083 = nw ∧ TV T ∧ NV T nw
section FR2
variable {W : Int → Int → Prop} {h h' : AH} {T : Int → Int → Int} {nw : Int → Int} {r k z : Int}
theorem MG_off (hG : MG T nw h) (a : Off W h h') (hW : ∀ r i, W r i → fre r i ∧ ¬ (1072 ≤ r ∧ r ≤ 1083)) : MG T nw h' :=
  ⟨MI_off hG.1 a (fun r i w => (hW r i w).1), (stt_off a (fun r i w g => (hW r i w).2 ⟨g.1, by omega⟩)).trans hG.2.1, (Off_r a (fun i w => (hW _ i w).2 (by omega))).trans hG.2.2.1, hG.2.2.2⟩
theorem MG_w (hG : MG T nw h) (hf : fre r k ∧ ¬ (1072 ≤ r ∧ r ≤ 1083)) : MG T nw (ah_w h r k z) := MG_off (W := fun r i => fre r i ∧ ¬ (1072 ≤ r ∧ r ≤ 1083)) hG (Off_w Off_rfl hf) (fun _ _ x => x)
theorem MG_w' (hG : MG T nw h) (hr : 1084 ≤ r ∧ r ≤ 1093 ∨ 1117 ≤ r ∨ r < 1036 ∨ r = 1037 ∨ r = 1038) : MG T nw (ah_w h r k z) := MG_w hG (by unfold fre; omega)
theorem g_1072 (hG : MG T nw h) : ah_m h 1072 = T 1072 := by rw [← hG.2.1]; exact stt_r (by decide) (by decide)
theorem g_1073 (hG : MG T nw h) : ah_m h 1073 = T 1073 := by rw [← hG.2.1]; exact stt_r (by decide) (by decide)
theorem g_1074 (hG : MG T nw h) : ah_m h 1074 = T 1074 := by rw [← hG.2.1]; exact stt_r (by decide) (by decide)
theorem g_1075 (hG : MG T nw h) : ah_m h 1075 = T 1075 := by rw [← hG.2.1]; exact stt_r (by decide) (by decide)
theorem g_1076 (hG : MG T nw h) : ah_m h 1076 = T 1076 := by rw [← hG.2.1]; exact stt_r (by decide) (by decide)
theorem g_1077 (hG : MG T nw h) : ah_m h 1077 = T 1077 := by rw [← hG.2.1]; exact stt_r (by decide) (by decide)
theorem g_1078 (hG : MG T nw h) : ah_m h 1078 = T 1078 := by rw [← hG.2.1]; exact stt_r (by decide) (by decide)
theorem g_1079 (hG : MG T nw h) : ah_m h 1079 = T 1079 := by rw [← hG.2.1]; exact stt_r (by decide) (by decide)
theorem g_1080 (hG : MG T nw h) : ah_m h 1080 = T 1080 := by rw [← hG.2.1]; exact stt_r (by decide) (by decide)
theorem g_1081 (hG : MG T nw h) : ah_m h 1081 = T 1081 := by rw [← hG.2.1]; exact stt_r (by decide) (by decide)
theorem g_1082 (hG : MG T nw h) : ah_m h 1082 = T 1082 := by rw [← hG.2.1]; exact stt_r (by decide) (by decide)
theorem g_1083 (hG : MG T nw h) : ah_m h 1083 = nw := hG.2.2.1
theorem MV_of (hG : MG T nw h) : MV h := by
  have hT := hG.2.2.2.1
  have hN := hG.2.2.2.2
  unfold MV
  rw [g_1072 hG, g_1074 hG, g_1076 hG, g_1083 hG]
  exact ⟨hT.1, hT.2.1, hT.2.2.1, hT.2.2.2.1, hT.2.2.2.2.1, fun m a b => (hT.2.2.2.2.2.1 m a b).1, hN.1⟩
end FR2
