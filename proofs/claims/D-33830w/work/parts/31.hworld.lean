set_option maxRecDepth 100000
/-! THE HOUSE's WORLD: σ.1 0..6 its arrays (kernels, rootlets, wets, growths, heats, felts, places), 7..10 the drums' lot, air, dew, turn, 11 the ints (glassy, lots, time, isLit, litFor, low, high, daily, left, steeped, breathed, sprays); σ.2.1 the book, the latest entry first; σ.2.2 how many cells may still be made. The house at a takes a .. a + 13: its arrays a + 1 .., the drums' array a + 8, the heap a + 9, the drums a + 10 .. -/
abbrev HS : Type := MS × List Int32 × Nat
def hU (σ : HS) (b i : Nat) (x : Int32) : HS := (mU σ.1 b i x, σ.2)
def BK (h : AH) : List Int32 → Option Nat → Prop
  | [], b => b = none
  | t :: r, b => ∃ (q : Nat) (b1 : Option Nat), b = some q ∧ h q = some (.inr (5, [.int t, va_rf b1])) ∧ BK h r b1
theorem BK.mono {h h1 : AH} (hk : ∀ (q : Nat) (f : List Value), h q = some (.inr (5, f)) → h1 q = some (.inr (5, f))) : ∀ (L : List Int32) (b : Option Nat), BK h L b → BK h1 L b
  | [], _, hb => hb
  | _ :: r, _, ⟨q, b1, e, hq, hr⟩ => ⟨q, b1, e, hk q _ hq, BK.mono hk r b1 hr⟩
def hObj (a : Nat) (b : Option Nat) (y : MS) : aE := .inr (1, [.ref (a + 1 + 0), .ref (a + 1 + 1), .ref (a + 1 + 2), .ref (a + 1 + 3), .ref (a + 1 + 4), .ref (a + 1 + 5), .ref (a + 1 + 6), .ref (a + 8), .ref (a + 9 + 0), va_rf b, .int (y 11 0), .int (y 11 1), .int (y 11 2), .int (y 11 3), .int (y 11 4), .int (y 11 5), .int (y 11 6), .int (y 11 7), .int (y 11 8), .int (y 11 9), .int (y 11 10), .int (y 11 11)])
def hDr (y : MS) (d : Nat) : aE := .inr (3, [.int (y 7 d), .int (y 8 d), .int (y 9 d), .int (y 10 d)])
def HV (h : AH) (a : Nat) (σ : HS) : Prop := (∃ b, h a = some (hObj a b σ.1) ∧ BK h σ.2.1 b) ∧ (∀ b, b < 7 → h (a + 1 + b) = some (.inl (0, 12, .inl (σ.1 b)))) ∧ (∃ f : Nat → Option Nat, h (a + 8) = some (.inl (4, 4, .inr (.inr (.inr (.inr f))))) ∧ ∀ d, d < 4 → f d = some (a + 9 + (1 + d))) ∧ h (a + 9 + 0) = some (.inr (2, [.int 0])) ∧ (∀ d, d < 4 → h (a + 9 + (1 + d)) = some (hDr σ.1 d)) ∧ (σ.1 11 3 = 0 ∨ σ.1 11 3 = 1)
def HW (h0 : AH) (n0 u0 a K : Nat) (σ : HS) : aWd := fun h n u => HV h a σ ∧ n0 ≤ n ∧ u0 ≤ u ∧ n + σ.2.2 ≤ n0 + K ∧ u + 2 * σ.2.2 ≤ u0 + 2 * K ∧ (∀ q, q < n0 → (q < a ∨ a + 14 ≤ q) → h q = h0 q) ∧ ∀ (q : Nat) (f : List Value), h0 q = some (.inr (5, f)) → h q = some (.inr (5, f))
theorem HW.start {h0 : AH} {n0 u0 a : Nat} {σ : HS} (hV : HV h0 a σ) : ∀ h n u, aIs h0 n0 u0 h n u → HW h0 n0 u0 a σ.2.2 σ h n u := by
  rintro h n u ⟨rfl, rfl, rfl⟩
  exact ⟨hV, Nat.le_refl _, Nat.le_refl _, Nat.le_refl _, Nat.le_refl _, fun _ _ _ => rfl, fun _ _ h => h⟩
theorem HW.trans {h0 : AH} {n0 u0 a K : Nat} {σ σ1 : HS} {h : AH} {n u : Nat} (hV : HW h0 n0 u0 a K σ h n u) {h1 : AH} {n1 u1 : Nat} (h2 : HW h n u a σ.2.2 σ1 h1 n1 u1) : HW h0 n0 u0 a K σ1 h1 n1 u1 := by
  obtain ⟨-, a1, a2, a3, a4, a5, a6⟩ := hV
  obtain ⟨b0, b1, b2, b3, b4, b5, b6⟩ := h2
  exact ⟨b0, by omega, by omega, by omega, by omega, fun q hq ho => (b5 q (by omega) ho).trans (a5 q hq ho), fun q f hf => b6 q f (a6 q f hf)⟩
theorem h_end {h0 : AH} {n0 u0 a K : Nat} {σ : HS} {h : AH} {n u : Nat} {s : State} (hs : s.heap.size = n0 ∧ slT s.heap = u0) (hV : HW h0 n0 u0 a K σ h n u) : n ≤ s.heap.size + K ∧ u ≤ slT s.heap + 2 * K := by
  obtain ⟨-, a1, a2, a3, a4, -⟩ := hV
  omega
theorem h_keep {h : AH} {x : Nat} {e0 E : aE} (hx : h x = some e0) (hne : ∀ f, e0 ≠ .inr (5, f)) : ∀ (q : Nat) (f : List Value), h q = some (.inr (5, f)) → a_up h x E q = some (.inr (5, f)) := by
  intro q f hq
  rw [a_up_ne]
  · exact hq
  · rintro rfl
    rw [hx] at hq
    exact hne f (Option.some.inj hq)
/-- a cell of the house is written -/
theorem h_step {h0 : AH} {n0 u0 a K : Nat} {σ σ1 : HS} {h : AH} {n u x : Nat} {e0 E : aE} (hV : HW h0 n0 u0 a K σ h n u) (hx : h x = some e0) (hne : ∀ f, e0 ≠ .inr (5, f)) (hin : a ≤ x ∧ x < a + 14) (h2 : σ1.2 = σ.2) (hV1 : HV (a_up h x E) a σ1) : HW h0 n0 u0 a K σ1 (a_up h x E) n u := by
  obtain ⟨-, a1, a2, a3, a4, a5, a6⟩ := hV
  refine ⟨hV1, a1, a2, by rw [h2]; exact a3, by rw [h2]; exact a4, fun q hq ho => ?_, fun q f hf => h_keep hx hne q f (a6 q f hf)⟩
  rw [a_up_ne (by omega)]
  exact a5 q hq ho
theorem hObj_arr {a : Nat} {b : Option Nat} {y : MS} {d i : Nat} {x : Int32} (hd : d < 11) : hObj a b (mU y d i x) = hObj a b y := by
  unfold hObj
  rw [m_un (by omega)]
theorem h_put {h0 : AH} {n0 u0 a K : Nat} {σ : HS} {h : AH} {n u b i : Nat} {x : Int32} (hb : b < 7) (hV : HW h0 n0 u0 a K σ h n u) : HW h0 n0 u0 a K (hU σ b i x) (a_up h (a + 1 + b) (.inl (0, 12, .inl (upd (σ.1 b) i x)))) n u := by
  have hx := hV.1.2.1 b hb
  refine h_step hV hx (fun f z => by cases z) (by omega) rfl ?_
  obtain ⟨⟨bk, g1, g2⟩, g3, ⟨f, g4, g5⟩, g6, g7, g8⟩ := hV.1
  refine ⟨⟨bk, ?_, BK.mono (h_keep hx (fun f z => by cases z)) _ _ g2⟩, fun d hd => ?_, ⟨f, ?_, g5⟩, ?_, fun d hd => ?_, ?_⟩
  · rw [a_up_ne (by omega), g1]
    exact congrArg some (hObj_arr (by omega)).symm
  · show a_up h (a + 1 + b) _ (a + 1 + d) = some (.inl (0, 12, .inl (mU σ.1 b i x d)))
    by_cases e : d = b
    · subst e
      rw [a_up_self, m_u0]
    · rw [a_up_ne (by omega), g3 d hd, m_un e]
  · rw [a_up_ne (by omega), g4]
  · rw [a_up_ne (by omega), g6]
  · rw [a_up_ne (by omega), g7 d hd]
    show some (hDr σ.1 d) = some (hDr (mU σ.1 b i x) d)
    unfold hDr
    rw [m_un (by omega), m_un (by omega), m_un (by omega), m_un (by omega)]
  · show mU σ.1 b i x 11 3 = 0 ∨ mU σ.1 b i x 11 3 = 1
    rw [m_un (by omega)]
    exact g8
theorem hObj_set (a : Nat) (b : Option Nat) (y : MS) (i : Nat) (hi : i < 12) (x : Int32) : ∃ fs, hObj a b y = .inr (1, fs) ∧ 10 + i < fs.length ∧ (.inr (1, fs.set (10 + i) (.int x)) : aE) = hObj a b (mU y 11 i x) := by
  refine ⟨_, rfl, by show 10 + i < 22; omega, ?_⟩
  rcases (show i = 0 ∨ i = 1 ∨ i = 2 ∨ i = 3 ∨ i = 4 ∨ i = 5 ∨ i = 6 ∨ i = 7 ∨ i = 8 ∨ i = 9 ∨ i = 10 ∨ i = 11 by omega) with rfl | rfl | rfl | rfl | rfl | rfl | rfl | rfl | rfl | rfl | rfl | rfl <;> (unfold hObj; rw [m_u0]; rfl)
theorem h_putf {h0 : AH} {n0 u0 a K : Nat} {σ : HS} {h : AH} {n u : Nat} {x : Int32} (i : Nat) (hi : i < 12) (hx : i = 3 → x = 0 ∨ x = 1) (hV : HW h0 n0 u0 a K σ h n u) : ∃ fs, h a = some (.inr (1, fs)) ∧ 10 + i < fs.length ∧ HW h0 n0 u0 a K (hU σ 11 i x) (a_up h a (.inr (1, fs.set (10 + i) (.int x)))) n u := by
  obtain ⟨⟨bk, g1, g2⟩, g3, ⟨f, g4, g5⟩, g6, g7, g8⟩ := hV.1
  obtain ⟨fs, e1, e2, e3⟩ := hObj_set a bk σ.1 i hi x
  have hx1 : h a = some (.inr (1, fs)) := by rw [g1, e1]
  have hne : ∀ f, (.inr (1, fs) : aE) ≠ .inr (5, f) := fun f z => by cases z
  refine ⟨fs, hx1, e2, h_step hV hx1 hne (by omega) rfl ?_⟩
  refine ⟨⟨bk, ?_, BK.mono (h_keep hx1 hne) _ _ g2⟩, fun d hd => ?_, ⟨f, ?_, g5⟩, ?_, fun d hd => ?_, ?_⟩
  · rw [a_up_self, e3]; rfl
  · rw [a_up_ne (by omega), g3 d hd]
    show _ = some (Sum.inl (0, 12, Sum.inl (mU σ.1 11 i x d)))
    rw [m_un (by omega)]
  · rw [a_up_ne (by omega), g4]
  · rw [a_up_ne (by omega), g6]
  · rw [a_up_ne (by omega), g7 d hd]
    show some (hDr σ.1 d) = some (hDr (mU σ.1 11 i x) d)
    unfold hDr
    rw [m_un (by omega), m_un (by omega), m_un (by omega), m_un (by omega)]
  · show mU σ.1 11 i x 11 3 = 0 ∨ mU σ.1 11 i x 11 3 = 1
    rw [m_u0]
    unfold upd
    by_cases e : 3 = i
    · rw [if_pos e]; exact hx e.symm
    · rw [if_neg e]; exact g8
/-- a drum's field k (0 lot, 1 air, 2 dew, 3 turn) -/
theorem h_putd {h0 : AH} {n0 u0 a K : Nat} {σ : HS} {h : AH} {n u d : Nat} {x : Int32} (k : Nat) (hk : k < 4) (hd : d < 4) (hV : HW h0 n0 u0 a K σ h n u) : ∃ fs, h (a + 9 + (1 + d)) = some (.inr (3, fs)) ∧ k < fs.length ∧ HW h0 n0 u0 a K (hU σ (7 + k) d x) (a_up h (a + 9 + (1 + d)) (.inr (3, fs.set k (.int x)))) n u := by
  obtain ⟨⟨bk, g1, g2⟩, g3, ⟨f, g4, g5⟩, g6, g7, g8⟩ := hV.1
  have hx1 := g7 d hd
  have hne : ∀ f, hDr σ.1 d ≠ .inr (5, f) := fun f z => by cases z
  refine ⟨_, hx1, hk, h_step hV hx1 hne (by omega) rfl ?_⟩
  refine ⟨⟨bk, ?_, BK.mono (h_keep hx1 hne) _ _ g2⟩, fun j hj => ?_, ⟨f, ?_, g5⟩, ?_, fun j hj => ?_, ?_⟩
  · rw [a_up_ne (by omega), g1]
    exact congrArg some (hObj_arr (by omega)).symm
  · rw [a_up_ne (by omega), g3 j hj]
    show _ = some (Sum.inl (0, 12, Sum.inl (mU σ.1 (7 + k) d x j)))
    rw [m_un (by omega)]
  · rw [a_up_ne (by omega), g4]
  · rw [a_up_ne (by omega), g6]
  · show a_up h (a + 9 + (1 + d)) _ (a + 9 + (1 + j)) = some (hDr (mU σ.1 (7 + k) d x) j)
    by_cases e : j = d
    · subst e
      rw [a_up_self]
      rcases (show k = 0 ∨ k = 1 ∨ k = 2 ∨ k = 3 by omega) with rfl | rfl | rfl | rfl <;> simp [hDr, mU, upd]
    · rw [a_up_ne (by omega), g7 j hj]
      rcases (show k = 0 ∨ k = 1 ∨ k = 2 ∨ k = 3 by omega) with rfl | rfl | rfl | rfl <;> simp [hDr, mU, upd, e]
  · show mU σ.1 (7 + k) d x 11 3 = 0 ∨ mU σ.1 (7 + k) d x 11 3 = 1
    rw [m_un (by omega)]
    exact g8
abbrev h_pi (Q : Int32 → HS → Prop) (h0 : AH) (n0 u0 a K : Nat) : Option Value → aWd := fun r h n u => ∃ x : Int32 × HS, r = some (.int x.1) ∧ Q x.1 x.2 ∧ HW h0 n0 u0 a K x.2 h n u
abbrev h_pb (Q : Nat → HS → Prop) (h0 : AH) (n0 u0 a K : Nat) : Option Value → aWd := fun r h n u => ∃ x : Nat × HS, r = some (.ref (a + 9 + x.1)) ∧ Q x.1 x.2 ∧ HW h0 n0 u0 a K x.2 h n u
abbrev h_pv (Q : HS → Prop) (h0 : AH) (n0 u0 a K : Nat) : Option Value → aWd := fun r h n u => ∃ x : HS, r = none ∧ Q x ∧ HW h0 n0 u0 a K x h n u
def hAir (σ : HS) (B : Nat) : Int32 := if B = 0 then 0 else σ.1 8 (B - 1)
def hDew (σ : HS) (B : Nat) : Int32 := if B = 0 then 3 else σ.1 9 (B - 1)
def hTurn (σ : HS) (B : Nat) : Int32 := if B = 0 then 0 else σ.1 10 (B - 1)
def hIsHeap (B : Nat) : Int32 := if B = 0 then 1 else 0
/-! the beds' own methods -/
theorem pn_RX5 : plainName RX5 = true := by decide
theorem pn_RX4 : plainName RX4 = true := by decide
theorem pn_RX3 : plainName RX3 = true := by decide
theorem ct_X5_air (l : Launch) (G : aG) (b : Nat) (y0 : MS) (d : Nat) (h0 : AH) (n0 u0 : Nat) (hb : h0 b = some (hDr y0 d)) : CT l yX5_air (ws_ yX5_air cX5_air 1 (some .int)) 1 G [.ref b] h0 n0 u0 0 0 (s_pi (fun v => v = y0 8 d) h0 n0 u0) := by
  refine CT.intro [some (.ref b)] pn_RX5 rfl (Nat.le_of_ble_eq_true rfl) ?_
  intro p e s m args below meth c C hz hu
  have hs : s.heap.size = n0 ∧ slT s.heap = u0 := ⟨hz, hu⟩
  refine a_aload_0 (pc := 0) C dX5_air_0 ?_
  refine a_getf (pc := 1) C (ref := "MaltDrums$Drum") (v := .int (y0 8 d)) in_X5 (ci := 3) rfl 1 (by decide) q142 rfl (fun h n u hV => by obtain ⟨rfl, rfl, rfl⟩ := hV; exact ⟨_, hb, rfl⟩) dX5_air_1 ?_
  exact a_iret C dX5_air_4 (fun h n u hV => ⟨⟨_, rfl, rfl, hV⟩, s_end hs hV⟩)
theorem ct_X5_dew (l : Launch) (G : aG) (b : Nat) (y0 : MS) (d : Nat) (h0 : AH) (n0 u0 : Nat) (hb : h0 b = some (hDr y0 d)) : CT l yX5_dew (ws_ yX5_dew cX5_dew 1 (some .int)) 1 G [.ref b] h0 n0 u0 0 0 (s_pi (fun v => v = y0 9 d) h0 n0 u0) := by
  refine CT.intro [some (.ref b)] pn_RX5 rfl (Nat.le_of_ble_eq_true rfl) ?_
  intro p e s m args below meth c C hz hu
  have hs : s.heap.size = n0 ∧ slT s.heap = u0 := ⟨hz, hu⟩
  refine a_aload_0 (pc := 0) C dX5_dew_0 ?_
  refine a_getf (pc := 1) C (ref := "MaltDrums$Drum") (v := .int (y0 9 d)) in_X5 (ci := 3) rfl 2 (by decide) q144 rfl (fun h n u hV => by obtain ⟨rfl, rfl, rfl⟩ := hV; exact ⟨_, hb, rfl⟩) dX5_dew_1 ?_
  exact a_iret C dX5_dew_4 (fun h n u hV => ⟨⟨_, rfl, rfl, hV⟩, s_end hs hV⟩)
theorem ct_X5_turn (l : Launch) (G : aG) (b : Nat) (y0 : MS) (d : Nat) (h0 : AH) (n0 u0 : Nat) (hb : h0 b = some (hDr y0 d)) : CT l yX5_turn (ws_ yX5_turn cX5_turn 1 (some .int)) 1 G [.ref b] h0 n0 u0 0 0 (s_pi (fun v => v = y0 10 d) h0 n0 u0) := by
  refine CT.intro [some (.ref b)] pn_RX5 rfl (Nat.le_of_ble_eq_true rfl) ?_
  intro p e s m args below meth c C hz hu
  have hs : s.heap.size = n0 ∧ slT s.heap = u0 := ⟨hz, hu⟩
  refine a_aload_0 (pc := 0) C dX5_turn_0 ?_
  refine a_getf (pc := 1) C (ref := "MaltDrums$Drum") (v := .int (y0 10 d)) in_X5 (ci := 3) rfl 3 (by decide) q146 rfl (fun h n u hV => by obtain ⟨rfl, rfl, rfl⟩ := hV; exact ⟨_, hb, rfl⟩) dX5_turn_1 ?_
  exact a_iret C dX5_turn_4 (fun h n u hV => ⟨⟨_, rfl, rfl, hV⟩, s_end hs hV⟩)
theorem ct_X4_air (l : Launch) (G : aG) (b : Nat) (h0 : AH) (n0 u0 : Nat) (hb : h0 b = some (.inr (2, [.int 0]))) : CT l yX4_air (ws_ yX4_air cX4_air 1 (some .int)) 1 G [.ref b] h0 n0 u0 0 0 (s_pi (fun v => v = 0) h0 n0 u0) := by
  refine CT.intro [some (.ref b)] pn_RX4 rfl (Nat.le_of_ble_eq_true rfl) ?_
  intro p e s m args below meth c C hz hu
  have hs : s.heap.size = n0 ∧ slT s.heap = u0 := ⟨hz, hu⟩
  refine a_aload_0 (pc := 0) C dX4_air_0 ?_
  refine a_getf (pc := 1) C (ref := "MaltDrums$Heap") (v := .int 0) in_X4 (ci := 2) rfl 0 (by decide) q129 rfl (fun h n u hV => by obtain ⟨rfl, rfl, rfl⟩ := hV; exact ⟨_, hb, rfl⟩) dX4_air_1 ?_
  exact a_iret C dX4_air_4 (fun h n u hV => ⟨⟨_, rfl, rfl, hV⟩, s_end hs hV⟩)
theorem ct_X3_dew (l : Launch) (G : aG) (b : Nat) (h0 : AH) (n0 u0 : Nat) : CT l yX3_dew (ws_ yX3_dew cX3_dew 1 (some .int)) 1 G [.ref b] h0 n0 u0 0 0 (s_pi (fun v => v = 3) h0 n0 u0) := by
  refine CT.intro [some (.ref b)] pn_RX3 rfl (Nat.le_of_ble_eq_true rfl) ?_
  intro p e s m args below meth c C hz hu
  have hs : s.heap.size = n0 ∧ slT s.heap = u0 := ⟨hz, hu⟩
  refine a_iconst (pc := 0) C dX3_dew_0 ic_3 ?_
  exact a_iret C dX3_dew_1 (fun h n u hV => ⟨⟨_, rfl, rfl, hV⟩, s_end hs hV⟩)
theorem ct_X3_turn (l : Launch) (G : aG) (b : Nat) (h0 : AH) (n0 u0 : Nat) : CT l yX3_turn (ws_ yX3_turn cX3_turn 1 (some .int)) 1 G [.ref b] h0 n0 u0 0 0 (s_pi (fun v => v = 0) h0 n0 u0) := by
  refine CT.intro [some (.ref b)] pn_RX3 rfl (Nat.le_of_ble_eq_true rfl) ?_
  intro p e s m args below meth c C hz hu
  have hs : s.heap.size = n0 ∧ slT s.heap = u0 := ⟨hz, hu⟩
  refine a_iconst (pc := 0) C dX3_turn_0 ic_0 ?_
  exact a_iret C dX3_turn_1 (fun h n u hV => ⟨⟨_, rfl, rfl, hV⟩, s_end hs hV⟩)
theorem ct_X3_isHeap (l : Launch) (G : aG) (b : Nat) (h0 : AH) (n0 u0 : Nat) : CT l yX3_isHeap (ws_ yX3_isHeap cX3_isHeap 1 (some .boolean)) 1 G [.ref b] h0 n0 u0 0 0 (s_pi (fun v => v = 1) h0 n0 u0) := by
  refine CT.intro [some (.ref b)] pn_RX3 rfl (Nat.le_of_ble_eq_true rfl) ?_
  intro p e s m args below meth c C hz hu
  have hs : s.heap.size = n0 ∧ slT s.heap = u0 := ⟨hz, hu⟩
  refine a_iconst (pc := 0) C dX3_isHeap_0 ic_1 ?_
  exact a_zret rfl C dX3_isHeap_1 (fun h n u hV => ⟨⟨_, rfl, rfl, hV⟩, s_end hs hV⟩)
theorem ct_X5_isHeap (l : Launch) (G : aG) (b : Nat) (h0 : AH) (n0 u0 : Nat) : CT l yX5_isHeap (ws_ yX5_isHeap cX5_isHeap 1 (some .boolean)) 1 G [.ref b] h0 n0 u0 0 0 (s_pi (fun v => v = 0) h0 n0 u0) := by
  refine CT.intro [some (.ref b)] pn_RX5 rfl (Nat.le_of_ble_eq_true rfl) ?_
  intro p e s m args below meth c C hz hu
  have hs : s.heap.size = n0 ∧ slT s.heap = u0 := ⟨hz, hu⟩
  refine a_iconst (pc := 0) C dX5_isHeap_0 ic_0 ?_
  exact a_zret rfl C dX5_isHeap_1 (fun h n u hV => ⟨⟨_, rfl, rfl, hV⟩, s_end hs hV⟩)
section HRows
variable {G : aG} {p : Program} {l : Launch} {e : Env} {R : Room} {s : State} {m : MethodId} {args : Array Value} {below : List Frame} {meth : Method} {c : Code} {A : Nat → Prop} {y : MethodName} {cc : ByteArray} {nL : Nat} {rt : Option FieldType} {Q : State → Prop} {V : aWd} {pc : Nat} {L : List (Option Value)} {st : List Value} {h0 : AH} {n0 u0 a K : Nat} {σ : HS}
theorem a_ldc (C : Cx G p l s m args meth c A y cc nL rt) {index : Nat} {v : Int32} (hconst : Cond.constant y.cls index v ∈ lw_all) (d : decode cc pc = .ok (.ldc index, 2)) (k : AW G p l e R s m args below meth c A nL Q V (pc + 2) L (.int v :: st)) : AW G p l e R s m args below meth c A nL Q V pc L st :=
  fun h n u hV H locs ls hz hu hR hA hS hl => lv_ldc C.1 C.2.1 C.own (C.ts _ hconst) d (k h n u hV H locs ls hz hu hR hA hS hl)
theorem a_ldcw (C : Cx G p l s m args meth c A y cc nL rt) {index : Nat} {v : Int32} (hconst : Cond.constant y.cls index v ∈ lw_all) (d : decode cc pc = .ok (.ldc_w index, 3)) (k : AW G p l e R s m args below meth c A nL Q V (pc + 3) L (.int v :: st)) : AW G p l e R s m args below meth c A nL Q V pc L st :=
  fun h n u hV H locs ls hz hu hR hA hS hl => lv_ldcw C.1 C.2.1 C.own (C.ts _ hconst) d (k h n u hV H locs ls hz hu hR hA hS hl)
theorem h_iald (C : Cx G p l s m args meth c A y cc nL rt) {b : Nat} {i : Int32} (hb : b < 7) (hin : vp_in i 12) (d : decode cc pc = .ok (.iaload, 1)) (k : AW G p l e R s m args below meth c A nL Q (HW h0 n0 u0 a K σ) (pc + 1) L (.int (σ.1 b i.toNatClampNeg) :: st)) : AW G p l e R s m args below meth c A nL Q (HW h0 n0 u0 a K σ) pc L (.int i :: .ref (a + 1 + b) :: st) :=
  a_iald C (f := σ.1 b) (fun h n u hV => hV.1.2.1 b hb) hin d k
theorem h_iast (C : Cx G p l s m args meth c A y cc nL rt) {b : Nat} {i x : Int32} (hb : b < 7) (hin : vp_in i 12) (d : decode cc pc = .ok (.iastore, 1)) (k : ∀ σ1, σ1 = hU σ b i.toNatClampNeg x → AW G p l e R s m args below meth c A nL Q (HW h0 n0 u0 a K σ1) (pc + 1) L st) : AW G p l e R s m args below meth c A nL Q (HW h0 n0 u0 a K σ) pc L (.int x :: .int i :: .ref (a + 1 + b) :: st) :=
  a_iast C (V1 := HW h0 n0 u0 a K (hU σ b i.toNatClampNeg x)) (fun h n u hV => ⟨hV.1.2.1 b hb, h_put hb hV⟩) hin d (k _ rfl)
theorem h_aald (C : Cx G p l s m args meth c A y cc nL rt) {i : Int32} (hin : vp_in i 4) (d : decode cc pc = .ok (.aaload, 1)) (k : AW G p l e R s m args below meth c A nL Q (HW h0 n0 u0 a K σ) (pc + 1) L (.ref (a + 9 + (1 + i.toNatClampNeg)) :: st)) : AW G p l e R s m args below meth c A nL Q (HW h0 n0 u0 a K σ) pc L (.int i :: .ref (a + 8) :: st) := by
  refine a_open (fun h n u hV => ?_)
  obtain ⟨f, hf, hfd⟩ := hV.1.2.2.1
  refine a_aaldD C (f := f) (by rintro _ _ _ ⟨rfl, rfl, rfl⟩; exact hf) hin d ?_
  rw [hfd _ (Nat.not_le.mp fun q => hin (Or.inr q))]
  exact a_world (by rintro _ _ _ ⟨rfl, rfl, rfl⟩; exact hV) k
theorem h_get {h : AH} {n u k : Nat} {v : Value} (hV : HW h0 n0 u0 a K σ h n u) (hv : ∀ b : Option Nat, ([.ref (a + 1 + 0), .ref (a + 1 + 1), .ref (a + 1 + 2), .ref (a + 1 + 3), .ref (a + 1 + 4), .ref (a + 1 + 5), .ref (a + 1 + 6), .ref (a + 8), .ref (a + 9 + 0), va_rf b, .int (σ.1 11 0), .int (σ.1 11 1), .int (σ.1 11 2), .int (σ.1 11 3), .int (σ.1 11 4), .int (σ.1 11 5), .int (σ.1 11 6), .int (σ.1 11 7), .int (σ.1 11 8), .int (σ.1 11 9), .int (σ.1 11 10), .int (σ.1 11 11)] : List Value)[k]? = some v) : ∃ fs, h a = some (.inr (1, fs)) ∧ fs[k]? = some v := by
  obtain ⟨⟨b, h1, -⟩, -⟩ := hV.1
  exact ⟨_, h1, hv b⟩
theorem h_get_kernels (C : Cx G p l s m args meth c A y cc nL rt) {index : Nat} (hlink : Cond.fieldLink y.cls index "MaltDrums$House" "kernels" "[I" ∈ lw_all) (d : decode cc pc = .ok (.getfield index, 3)) (kk : AW G p l e R s m args below meth c A nL Q (HW h0 n0 u0 a K σ) (pc + 3) L (.ref (a + 1 + 0) :: st)) : AW G p l e R s m args below meth c A nL Q (HW h0 n0 u0 a K σ) pc L (.ref a :: st) :=
  a_getf C (ref := "MaltDrums$House") in_X2 rfl 0 (by decide) hlink rfl (fun h n u hV => h_get hV (fun _ => rfl)) d kk
theorem h_get_rootlets (C : Cx G p l s m args meth c A y cc nL rt) {index : Nat} (hlink : Cond.fieldLink y.cls index "MaltDrums$House" "rootlets" "[I" ∈ lw_all) (d : decode cc pc = .ok (.getfield index, 3)) (kk : AW G p l e R s m args below meth c A nL Q (HW h0 n0 u0 a K σ) (pc + 3) L (.ref (a + 1 + 1) :: st)) : AW G p l e R s m args below meth c A nL Q (HW h0 n0 u0 a K σ) pc L (.ref a :: st) :=
  a_getf C (ref := "MaltDrums$House") in_X2 rfl 1 (by decide) hlink rfl (fun h n u hV => h_get hV (fun _ => rfl)) d kk
theorem h_get_wets (C : Cx G p l s m args meth c A y cc nL rt) {index : Nat} (hlink : Cond.fieldLink y.cls index "MaltDrums$House" "wets" "[I" ∈ lw_all) (d : decode cc pc = .ok (.getfield index, 3)) (kk : AW G p l e R s m args below meth c A nL Q (HW h0 n0 u0 a K σ) (pc + 3) L (.ref (a + 1 + 2) :: st)) : AW G p l e R s m args below meth c A nL Q (HW h0 n0 u0 a K σ) pc L (.ref a :: st) :=
  a_getf C (ref := "MaltDrums$House") in_X2 rfl 2 (by decide) hlink rfl (fun h n u hV => h_get hV (fun _ => rfl)) d kk
theorem h_get_growths (C : Cx G p l s m args meth c A y cc nL rt) {index : Nat} (hlink : Cond.fieldLink y.cls index "MaltDrums$House" "growths" "[I" ∈ lw_all) (d : decode cc pc = .ok (.getfield index, 3)) (kk : AW G p l e R s m args below meth c A nL Q (HW h0 n0 u0 a K σ) (pc + 3) L (.ref (a + 1 + 3) :: st)) : AW G p l e R s m args below meth c A nL Q (HW h0 n0 u0 a K σ) pc L (.ref a :: st) :=
  a_getf C (ref := "MaltDrums$House") in_X2 rfl 3 (by decide) hlink rfl (fun h n u hV => h_get hV (fun _ => rfl)) d kk
theorem h_get_heats (C : Cx G p l s m args meth c A y cc nL rt) {index : Nat} (hlink : Cond.fieldLink y.cls index "MaltDrums$House" "heats" "[I" ∈ lw_all) (d : decode cc pc = .ok (.getfield index, 3)) (kk : AW G p l e R s m args below meth c A nL Q (HW h0 n0 u0 a K σ) (pc + 3) L (.ref (a + 1 + 4) :: st)) : AW G p l e R s m args below meth c A nL Q (HW h0 n0 u0 a K σ) pc L (.ref a :: st) :=
  a_getf C (ref := "MaltDrums$House") in_X2 rfl 4 (by decide) hlink rfl (fun h n u hV => h_get hV (fun _ => rfl)) d kk
theorem h_get_felts (C : Cx G p l s m args meth c A y cc nL rt) {index : Nat} (hlink : Cond.fieldLink y.cls index "MaltDrums$House" "felts" "[I" ∈ lw_all) (d : decode cc pc = .ok (.getfield index, 3)) (kk : AW G p l e R s m args below meth c A nL Q (HW h0 n0 u0 a K σ) (pc + 3) L (.ref (a + 1 + 5) :: st)) : AW G p l e R s m args below meth c A nL Q (HW h0 n0 u0 a K σ) pc L (.ref a :: st) :=
  a_getf C (ref := "MaltDrums$House") in_X2 rfl 5 (by decide) hlink rfl (fun h n u hV => h_get hV (fun _ => rfl)) d kk
theorem h_get_places (C : Cx G p l s m args meth c A y cc nL rt) {index : Nat} (hlink : Cond.fieldLink y.cls index "MaltDrums$House" "places" "[I" ∈ lw_all) (d : decode cc pc = .ok (.getfield index, 3)) (kk : AW G p l e R s m args below meth c A nL Q (HW h0 n0 u0 a K σ) (pc + 3) L (.ref (a + 1 + 6) :: st)) : AW G p l e R s m args below meth c A nL Q (HW h0 n0 u0 a K σ) pc L (.ref a :: st) :=
  a_getf C (ref := "MaltDrums$House") in_X2 rfl 6 (by decide) hlink rfl (fun h n u hV => h_get hV (fun _ => rfl)) d kk
theorem h_get_drums (C : Cx G p l s m args meth c A y cc nL rt) {index : Nat} (hlink : Cond.fieldLink y.cls index "MaltDrums$House" "drums" "[LMaltDrums$Drum;" ∈ lw_all) (d : decode cc pc = .ok (.getfield index, 3)) (kk : AW G p l e R s m args below meth c A nL Q (HW h0 n0 u0 a K σ) (pc + 3) L (.ref (a + 8) :: st)) : AW G p l e R s m args below meth c A nL Q (HW h0 n0 u0 a K σ) pc L (.ref a :: st) :=
  a_getf C (ref := "MaltDrums$House") in_X2 rfl 7 (by decide) hlink rfl (fun h n u hV => h_get hV (fun _ => rfl)) d kk
theorem h_get_heap (C : Cx G p l s m args meth c A y cc nL rt) {index : Nat} (hlink : Cond.fieldLink y.cls index "MaltDrums$House" "heap" "LMaltDrums$Bed;" ∈ lw_all) (d : decode cc pc = .ok (.getfield index, 3)) (kk : AW G p l e R s m args below meth c A nL Q (HW h0 n0 u0 a K σ) (pc + 3) L (.ref (a + 9 + 0) :: st)) : AW G p l e R s m args below meth c A nL Q (HW h0 n0 u0 a K σ) pc L (.ref a :: st) :=
  a_getf C (ref := "MaltDrums$House") in_X2 rfl 8 (by decide) hlink rfl (fun h n u hV => h_get hV (fun _ => rfl)) d kk
theorem h_get_glassy (C : Cx G p l s m args meth c A y cc nL rt) {index : Nat} (hlink : Cond.fieldLink y.cls index "MaltDrums$House" "glassy" "I" ∈ lw_all) (d : decode cc pc = .ok (.getfield index, 3)) (kk : AW G p l e R s m args below meth c A nL Q (HW h0 n0 u0 a K σ) (pc + 3) L (.int (σ.1 11 0) :: st)) : AW G p l e R s m args below meth c A nL Q (HW h0 n0 u0 a K σ) pc L (.ref a :: st) :=
  a_getf C (ref := "MaltDrums$House") in_X2 rfl 10 (by decide) hlink rfl (fun h n u hV => h_get hV (fun _ => rfl)) d kk
theorem h_get_lots (C : Cx G p l s m args meth c A y cc nL rt) {index : Nat} (hlink : Cond.fieldLink y.cls index "MaltDrums$House" "lots" "I" ∈ lw_all) (d : decode cc pc = .ok (.getfield index, 3)) (kk : AW G p l e R s m args below meth c A nL Q (HW h0 n0 u0 a K σ) (pc + 3) L (.int (σ.1 11 1) :: st)) : AW G p l e R s m args below meth c A nL Q (HW h0 n0 u0 a K σ) pc L (.ref a :: st) :=
  a_getf C (ref := "MaltDrums$House") in_X2 rfl 11 (by decide) hlink rfl (fun h n u hV => h_get hV (fun _ => rfl)) d kk
theorem h_get_time (C : Cx G p l s m args meth c A y cc nL rt) {index : Nat} (hlink : Cond.fieldLink y.cls index "MaltDrums$House" "time" "I" ∈ lw_all) (d : decode cc pc = .ok (.getfield index, 3)) (kk : AW G p l e R s m args below meth c A nL Q (HW h0 n0 u0 a K σ) (pc + 3) L (.int (σ.1 11 2) :: st)) : AW G p l e R s m args below meth c A nL Q (HW h0 n0 u0 a K σ) pc L (.ref a :: st) :=
  a_getf C (ref := "MaltDrums$House") in_X2 rfl 12 (by decide) hlink rfl (fun h n u hV => h_get hV (fun _ => rfl)) d kk
theorem h_get_isLit (C : Cx G p l s m args meth c A y cc nL rt) {index : Nat} (hlink : Cond.fieldLink y.cls index "MaltDrums$House" "isLit" "Z" ∈ lw_all) (d : decode cc pc = .ok (.getfield index, 3)) (kk : AW G p l e R s m args below meth c A nL Q (HW h0 n0 u0 a K σ) (pc + 3) L (.int (σ.1 11 3) :: st)) : AW G p l e R s m args below meth c A nL Q (HW h0 n0 u0 a K σ) pc L (.ref a :: st) :=
  a_getf C (ref := "MaltDrums$House") in_X2 rfl 13 (by decide) hlink rfl (fun h n u hV => h_get hV (fun _ => rfl)) d kk
theorem h_get_litFor (C : Cx G p l s m args meth c A y cc nL rt) {index : Nat} (hlink : Cond.fieldLink y.cls index "MaltDrums$House" "litFor" "I" ∈ lw_all) (d : decode cc pc = .ok (.getfield index, 3)) (kk : AW G p l e R s m args below meth c A nL Q (HW h0 n0 u0 a K σ) (pc + 3) L (.int (σ.1 11 4) :: st)) : AW G p l e R s m args below meth c A nL Q (HW h0 n0 u0 a K σ) pc L (.ref a :: st) :=
  a_getf C (ref := "MaltDrums$House") in_X2 rfl 14 (by decide) hlink rfl (fun h n u hV => h_get hV (fun _ => rfl)) d kk
theorem h_get_low (C : Cx G p l s m args meth c A y cc nL rt) {index : Nat} (hlink : Cond.fieldLink y.cls index "MaltDrums$House" "low" "I" ∈ lw_all) (d : decode cc pc = .ok (.getfield index, 3)) (kk : AW G p l e R s m args below meth c A nL Q (HW h0 n0 u0 a K σ) (pc + 3) L (.int (σ.1 11 5) :: st)) : AW G p l e R s m args below meth c A nL Q (HW h0 n0 u0 a K σ) pc L (.ref a :: st) :=
  a_getf C (ref := "MaltDrums$House") in_X2 rfl 15 (by decide) hlink rfl (fun h n u hV => h_get hV (fun _ => rfl)) d kk
theorem h_get_high (C : Cx G p l s m args meth c A y cc nL rt) {index : Nat} (hlink : Cond.fieldLink y.cls index "MaltDrums$House" "high" "I" ∈ lw_all) (d : decode cc pc = .ok (.getfield index, 3)) (kk : AW G p l e R s m args below meth c A nL Q (HW h0 n0 u0 a K σ) (pc + 3) L (.int (σ.1 11 6) :: st)) : AW G p l e R s m args below meth c A nL Q (HW h0 n0 u0 a K σ) pc L (.ref a :: st) :=
  a_getf C (ref := "MaltDrums$House") in_X2 rfl 16 (by decide) hlink rfl (fun h n u hV => h_get hV (fun _ => rfl)) d kk
theorem h_get_daily (C : Cx G p l s m args meth c A y cc nL rt) {index : Nat} (hlink : Cond.fieldLink y.cls index "MaltDrums$House" "daily" "I" ∈ lw_all) (d : decode cc pc = .ok (.getfield index, 3)) (kk : AW G p l e R s m args below meth c A nL Q (HW h0 n0 u0 a K σ) (pc + 3) L (.int (σ.1 11 7) :: st)) : AW G p l e R s m args below meth c A nL Q (HW h0 n0 u0 a K σ) pc L (.ref a :: st) :=
  a_getf C (ref := "MaltDrums$House") in_X2 rfl 17 (by decide) hlink rfl (fun h n u hV => h_get hV (fun _ => rfl)) d kk
theorem h_get_left (C : Cx G p l s m args meth c A y cc nL rt) {index : Nat} (hlink : Cond.fieldLink y.cls index "MaltDrums$House" "left" "I" ∈ lw_all) (d : decode cc pc = .ok (.getfield index, 3)) (kk : AW G p l e R s m args below meth c A nL Q (HW h0 n0 u0 a K σ) (pc + 3) L (.int (σ.1 11 8) :: st)) : AW G p l e R s m args below meth c A nL Q (HW h0 n0 u0 a K σ) pc L (.ref a :: st) :=
  a_getf C (ref := "MaltDrums$House") in_X2 rfl 18 (by decide) hlink rfl (fun h n u hV => h_get hV (fun _ => rfl)) d kk
theorem h_get_steeped (C : Cx G p l s m args meth c A y cc nL rt) {index : Nat} (hlink : Cond.fieldLink y.cls index "MaltDrums$House" "steeped" "I" ∈ lw_all) (d : decode cc pc = .ok (.getfield index, 3)) (kk : AW G p l e R s m args below meth c A nL Q (HW h0 n0 u0 a K σ) (pc + 3) L (.int (σ.1 11 9) :: st)) : AW G p l e R s m args below meth c A nL Q (HW h0 n0 u0 a K σ) pc L (.ref a :: st) :=
  a_getf C (ref := "MaltDrums$House") in_X2 rfl 19 (by decide) hlink rfl (fun h n u hV => h_get hV (fun _ => rfl)) d kk
theorem h_get_breathed (C : Cx G p l s m args meth c A y cc nL rt) {index : Nat} (hlink : Cond.fieldLink y.cls index "MaltDrums$House" "breathed" "I" ∈ lw_all) (d : decode cc pc = .ok (.getfield index, 3)) (kk : AW G p l e R s m args below meth c A nL Q (HW h0 n0 u0 a K σ) (pc + 3) L (.int (σ.1 11 10) :: st)) : AW G p l e R s m args below meth c A nL Q (HW h0 n0 u0 a K σ) pc L (.ref a :: st) :=
  a_getf C (ref := "MaltDrums$House") in_X2 rfl 20 (by decide) hlink rfl (fun h n u hV => h_get hV (fun _ => rfl)) d kk
theorem h_get_sprays (C : Cx G p l s m args meth c A y cc nL rt) {index : Nat} (hlink : Cond.fieldLink y.cls index "MaltDrums$House" "sprays" "I" ∈ lw_all) (d : decode cc pc = .ok (.getfield index, 3)) (kk : AW G p l e R s m args below meth c A nL Q (HW h0 n0 u0 a K σ) (pc + 3) L (.int (σ.1 11 11) :: st)) : AW G p l e R s m args below meth c A nL Q (HW h0 n0 u0 a K σ) pc L (.ref a :: st) :=
  a_getf C (ref := "MaltDrums$House") in_X2 rfl 21 (by decide) hlink rfl (fun h n u hV => h_get hV (fun _ => rfl)) d kk
theorem h_put_glassy (C : Cx G p l s m args meth c A y cc nL rt) {index : Nat} {x : Int32} (hlink : Cond.fieldLink y.cls index "MaltDrums$House" "glassy" "I" ∈ lw_all) (d : decode cc pc = .ok (.putfield index, 3)) (kk : ∀ σ1, σ1 = hU σ 11 0 x → AW G p l e R s m args below meth c A nL Q (HW h0 n0 u0 a K σ1) (pc + 3) L st) : AW G p l e R s m args below meth c A nL Q (HW h0 n0 u0 a K σ) pc L (.int x :: .ref a :: st) :=
  a_putf C (ref := "MaltDrums$House") (V1 := HW h0 n0 u0 a K (hU σ 11 0 x)) in_X2 tyX2 tyX2_ok nmX2 rfl 10 (by decide) hlink rfl rfl rfl rfl (fun h n u hV => h_putf 0 (by decide) (fun z => absurd z (by decide)) hV) d (kk _ rfl)
theorem h_put_lots (C : Cx G p l s m args meth c A y cc nL rt) {index : Nat} {x : Int32} (hlink : Cond.fieldLink y.cls index "MaltDrums$House" "lots" "I" ∈ lw_all) (d : decode cc pc = .ok (.putfield index, 3)) (kk : ∀ σ1, σ1 = hU σ 11 1 x → AW G p l e R s m args below meth c A nL Q (HW h0 n0 u0 a K σ1) (pc + 3) L st) : AW G p l e R s m args below meth c A nL Q (HW h0 n0 u0 a K σ) pc L (.int x :: .ref a :: st) :=
  a_putf C (ref := "MaltDrums$House") (V1 := HW h0 n0 u0 a K (hU σ 11 1 x)) in_X2 tyX2 tyX2_ok nmX2 rfl 11 (by decide) hlink rfl rfl rfl rfl (fun h n u hV => h_putf 1 (by decide) (fun z => absurd z (by decide)) hV) d (kk _ rfl)
theorem h_put_time (C : Cx G p l s m args meth c A y cc nL rt) {index : Nat} {x : Int32} (hlink : Cond.fieldLink y.cls index "MaltDrums$House" "time" "I" ∈ lw_all) (d : decode cc pc = .ok (.putfield index, 3)) (kk : ∀ σ1, σ1 = hU σ 11 2 x → AW G p l e R s m args below meth c A nL Q (HW h0 n0 u0 a K σ1) (pc + 3) L st) : AW G p l e R s m args below meth c A nL Q (HW h0 n0 u0 a K σ) pc L (.int x :: .ref a :: st) :=
  a_putf C (ref := "MaltDrums$House") (V1 := HW h0 n0 u0 a K (hU σ 11 2 x)) in_X2 tyX2 tyX2_ok nmX2 rfl 12 (by decide) hlink rfl rfl rfl rfl (fun h n u hV => h_putf 2 (by decide) (fun z => absurd z (by decide)) hV) d (kk _ rfl)
theorem h_put_isLit (C : Cx G p l s m args meth c A y cc nL rt) {index : Nat} {x : Int32} (hx : x = 0 ∨ x = 1) (hlink : Cond.fieldLink y.cls index "MaltDrums$House" "isLit" "Z" ∈ lw_all) (d : decode cc pc = .ok (.putfield index, 3)) (kk : ∀ σ1, σ1 = hU σ 11 3 x → AW G p l e R s m args below meth c A nL Q (HW h0 n0 u0 a K σ1) (pc + 3) L st) : AW G p l e R s m args below meth c A nL Q (HW h0 n0 u0 a K σ) pc L (.int x :: .ref a :: st) :=
  a_putf C (ref := "MaltDrums$House") (V1 := HW h0 n0 u0 a K (hU σ 11 3 x)) in_X2 tyX2 tyX2_ok nmX2 rfl 13 (by decide) hlink rfl rfl (narrow_bool hx) (by rcases hx with rfl | rfl <;> rfl) (fun h n u hV => h_putf 3 (by decide) (fun _ => hx) hV) d (kk _ rfl)
theorem h_put_litFor (C : Cx G p l s m args meth c A y cc nL rt) {index : Nat} {x : Int32} (hlink : Cond.fieldLink y.cls index "MaltDrums$House" "litFor" "I" ∈ lw_all) (d : decode cc pc = .ok (.putfield index, 3)) (kk : ∀ σ1, σ1 = hU σ 11 4 x → AW G p l e R s m args below meth c A nL Q (HW h0 n0 u0 a K σ1) (pc + 3) L st) : AW G p l e R s m args below meth c A nL Q (HW h0 n0 u0 a K σ) pc L (.int x :: .ref a :: st) :=
  a_putf C (ref := "MaltDrums$House") (V1 := HW h0 n0 u0 a K (hU σ 11 4 x)) in_X2 tyX2 tyX2_ok nmX2 rfl 14 (by decide) hlink rfl rfl rfl rfl (fun h n u hV => h_putf 4 (by decide) (fun z => absurd z (by decide)) hV) d (kk _ rfl)
theorem h_put_low (C : Cx G p l s m args meth c A y cc nL rt) {index : Nat} {x : Int32} (hlink : Cond.fieldLink y.cls index "MaltDrums$House" "low" "I" ∈ lw_all) (d : decode cc pc = .ok (.putfield index, 3)) (kk : ∀ σ1, σ1 = hU σ 11 5 x → AW G p l e R s m args below meth c A nL Q (HW h0 n0 u0 a K σ1) (pc + 3) L st) : AW G p l e R s m args below meth c A nL Q (HW h0 n0 u0 a K σ) pc L (.int x :: .ref a :: st) :=
  a_putf C (ref := "MaltDrums$House") (V1 := HW h0 n0 u0 a K (hU σ 11 5 x)) in_X2 tyX2 tyX2_ok nmX2 rfl 15 (by decide) hlink rfl rfl rfl rfl (fun h n u hV => h_putf 5 (by decide) (fun z => absurd z (by decide)) hV) d (kk _ rfl)
theorem h_put_high (C : Cx G p l s m args meth c A y cc nL rt) {index : Nat} {x : Int32} (hlink : Cond.fieldLink y.cls index "MaltDrums$House" "high" "I" ∈ lw_all) (d : decode cc pc = .ok (.putfield index, 3)) (kk : ∀ σ1, σ1 = hU σ 11 6 x → AW G p l e R s m args below meth c A nL Q (HW h0 n0 u0 a K σ1) (pc + 3) L st) : AW G p l e R s m args below meth c A nL Q (HW h0 n0 u0 a K σ) pc L (.int x :: .ref a :: st) :=
  a_putf C (ref := "MaltDrums$House") (V1 := HW h0 n0 u0 a K (hU σ 11 6 x)) in_X2 tyX2 tyX2_ok nmX2 rfl 16 (by decide) hlink rfl rfl rfl rfl (fun h n u hV => h_putf 6 (by decide) (fun z => absurd z (by decide)) hV) d (kk _ rfl)
theorem h_put_daily (C : Cx G p l s m args meth c A y cc nL rt) {index : Nat} {x : Int32} (hlink : Cond.fieldLink y.cls index "MaltDrums$House" "daily" "I" ∈ lw_all) (d : decode cc pc = .ok (.putfield index, 3)) (kk : ∀ σ1, σ1 = hU σ 11 7 x → AW G p l e R s m args below meth c A nL Q (HW h0 n0 u0 a K σ1) (pc + 3) L st) : AW G p l e R s m args below meth c A nL Q (HW h0 n0 u0 a K σ) pc L (.int x :: .ref a :: st) :=
  a_putf C (ref := "MaltDrums$House") (V1 := HW h0 n0 u0 a K (hU σ 11 7 x)) in_X2 tyX2 tyX2_ok nmX2 rfl 17 (by decide) hlink rfl rfl rfl rfl (fun h n u hV => h_putf 7 (by decide) (fun z => absurd z (by decide)) hV) d (kk _ rfl)
theorem h_put_left (C : Cx G p l s m args meth c A y cc nL rt) {index : Nat} {x : Int32} (hlink : Cond.fieldLink y.cls index "MaltDrums$House" "left" "I" ∈ lw_all) (d : decode cc pc = .ok (.putfield index, 3)) (kk : ∀ σ1, σ1 = hU σ 11 8 x → AW G p l e R s m args below meth c A nL Q (HW h0 n0 u0 a K σ1) (pc + 3) L st) : AW G p l e R s m args below meth c A nL Q (HW h0 n0 u0 a K σ) pc L (.int x :: .ref a :: st) :=
  a_putf C (ref := "MaltDrums$House") (V1 := HW h0 n0 u0 a K (hU σ 11 8 x)) in_X2 tyX2 tyX2_ok nmX2 rfl 18 (by decide) hlink rfl rfl rfl rfl (fun h n u hV => h_putf 8 (by decide) (fun z => absurd z (by decide)) hV) d (kk _ rfl)
theorem h_put_steeped (C : Cx G p l s m args meth c A y cc nL rt) {index : Nat} {x : Int32} (hlink : Cond.fieldLink y.cls index "MaltDrums$House" "steeped" "I" ∈ lw_all) (d : decode cc pc = .ok (.putfield index, 3)) (kk : ∀ σ1, σ1 = hU σ 11 9 x → AW G p l e R s m args below meth c A nL Q (HW h0 n0 u0 a K σ1) (pc + 3) L st) : AW G p l e R s m args below meth c A nL Q (HW h0 n0 u0 a K σ) pc L (.int x :: .ref a :: st) :=
  a_putf C (ref := "MaltDrums$House") (V1 := HW h0 n0 u0 a K (hU σ 11 9 x)) in_X2 tyX2 tyX2_ok nmX2 rfl 19 (by decide) hlink rfl rfl rfl rfl (fun h n u hV => h_putf 9 (by decide) (fun z => absurd z (by decide)) hV) d (kk _ rfl)
theorem h_put_breathed (C : Cx G p l s m args meth c A y cc nL rt) {index : Nat} {x : Int32} (hlink : Cond.fieldLink y.cls index "MaltDrums$House" "breathed" "I" ∈ lw_all) (d : decode cc pc = .ok (.putfield index, 3)) (kk : ∀ σ1, σ1 = hU σ 11 10 x → AW G p l e R s m args below meth c A nL Q (HW h0 n0 u0 a K σ1) (pc + 3) L st) : AW G p l e R s m args below meth c A nL Q (HW h0 n0 u0 a K σ) pc L (.int x :: .ref a :: st) :=
  a_putf C (ref := "MaltDrums$House") (V1 := HW h0 n0 u0 a K (hU σ 11 10 x)) in_X2 tyX2 tyX2_ok nmX2 rfl 20 (by decide) hlink rfl rfl rfl rfl (fun h n u hV => h_putf 10 (by decide) (fun z => absurd z (by decide)) hV) d (kk _ rfl)
theorem h_put_sprays (C : Cx G p l s m args meth c A y cc nL rt) {index : Nat} {x : Int32} (hlink : Cond.fieldLink y.cls index "MaltDrums$House" "sprays" "I" ∈ lw_all) (d : decode cc pc = .ok (.putfield index, 3)) (kk : ∀ σ1, σ1 = hU σ 11 11 x → AW G p l e R s m args below meth c A nL Q (HW h0 n0 u0 a K σ1) (pc + 3) L st) : AW G p l e R s m args below meth c A nL Q (HW h0 n0 u0 a K σ) pc L (.int x :: .ref a :: st) :=
  a_putf C (ref := "MaltDrums$House") (V1 := HW h0 n0 u0 a K (hU σ 11 11 x)) in_X2 tyX2 tyX2_ok nmX2 rfl 21 (by decide) hlink rfl rfl rfl rfl (fun h n u hV => h_putf 11 (by decide) (fun z => absurd z (by decide)) hV) d (kk _ rfl)
theorem h_get_lot (C : Cx G p l s m args meth c A y cc nL rt) {index d0 : Nat} {host : String} (hd : d0 < 4) (hlink : Cond.fieldLinkNest y.cls index "MaltDrums$Drum" "lot" "I" host ∈ lw_tbl) (d : decode cc pc = .ok (.getfield index, 3)) (kk : AW G p l e R s m args below meth c A nL Q (HW h0 n0 u0 a K σ) (pc + 3) L (.int (σ.1 7 d0) :: st)) : AW G p l e R s m args below meth c A nL Q (HW h0 n0 u0 a K σ) pc L (.ref (a + 9 + (1 + d0)) :: st) :=
  a_getfN C (ref := "MaltDrums$Drum") in_X5 (ci := 3) rfl 0 (by decide) hlink rfl (fun h n u hV => ⟨_, hV.1.2.2.2.2.1 d0 hd, rfl⟩) d kk
theorem h_put_lot (C : Cx G p l s m args meth c A y cc nL rt) {index d0 : Nat} {x : Int32} {host : String} (hd : d0 < 4) (hlink : Cond.fieldLinkNest y.cls index "MaltDrums$Drum" "lot" "I" host ∈ lw_tbl) (d : decode cc pc = .ok (.putfield index, 3)) (kk : ∀ σ1, σ1 = hU σ 7 d0 x → AW G p l e R s m args below meth c A nL Q (HW h0 n0 u0 a K σ1) (pc + 3) L st) : AW G p l e R s m args below meth c A nL Q (HW h0 n0 u0 a K σ) pc L (.int x :: .ref (a + 9 + (1 + d0)) :: st) :=
  a_putfN C (ref := "MaltDrums$Drum") (V1 := HW h0 n0 u0 a K (hU σ 7 d0 x)) in_X5 tyX5 tyX5_ok nmX5 (ci := 3) rfl 0 (by decide) hlink rfl rfl rfl rfl (fun h n u hV => h_putd 0 (by decide) hd hV) d (kk _ rfl)
theorem h_bed_air (C : Cx G p l s m args meth c A y cc nL rt) (hs : s.heap.size = n0 ∧ slT s.heap = u0) {index count k B : Nat} (hB : B < 5) (hk : 1 < k) (hlink : Cond.methodLink y.cls index ⟨"MaltDrums$Bed", "air", "()I"⟩ ∈ lw_all) (hst : (st.map fun v => v.category).sum ≤ 8) (d : decode cc pc = .ok (.invokeinterface index count, 5)) (kk : AW G p l e (aRm k K (2 * K)) s m args below meth c A nL Q (HW h0 n0 u0 a K σ) (pc + 5) L (.int (hAir σ B) :: st)) : AW G p l e (aRm k K (2 * K)) s m args below meth c A nL Q (HW h0 n0 u0 a K σ) pc L (.ref (a + 9 + B) :: st) := by
  have hd1 : aSig ⟨"MaltDrums$Bed", "air", "()I"⟩ 0 := by decide +kernel
  by_cases z : B = 0
  · subst z
    exact a_callF C (vs := []) (ci := 2) (r0 := (RX4, TX4, 1)) (y1 := yX4_air) (mc := 0) (ms := 0) (fun x : Int32 => some (.int x)) (fun x => x = 0) (fun _ => HW h0 n0 u0 a K σ) hk (by decide) (fun h n u hV => (ct_X4_air l G _ h n u hV.1.2.2.2.1).post fun r h1 n1 u1 q => by obtain ⟨x, e1, e2, rfl, rfl, rfl⟩ := q; exact ⟨x, e1, e2, hV⟩) rfl (List.mem_of_getElem? (i := 1) rfl) (fun h n u hV => ⟨_, hV.1.2.2.2.1⟩) (lw_F hlink q1072 q1074 q69 q1076) hd1 (fun h n u hV => by obtain ⟨-, q1, q2, q3, q4, -⟩ := hV; obtain ⟨g1, g2⟩ := hs; exact ⟨by omega, by omega⟩) hst d (fun x hx => by rw [hx]; exact kk)
  · obtain ⟨d0, rfl⟩ : ∃ d0, B = 1 + d0 := ⟨B - 1, by omega⟩
    have hd : d0 < 4 := by omega
    have hk2 : AW G p l e (aRm k K (2 * K)) s m args below meth c A nL Q (HW h0 n0 u0 a K σ) (pc + 5) L (.int (σ.1 8 d0) :: st) := by
      have e1 : hAir σ (1 + d0) = σ.1 8 d0 := by simp [hAir]
      rw [← e1]
      exact kk
    exact a_callF C (vs := []) (ci := 3) (r0 := (RX5, TX5, 4)) (y1 := yX5_air) (mc := 0) (ms := 0) (fun x : Int32 => some (.int x)) (fun x => x = σ.1 8 d0) (fun _ => HW h0 n0 u0 a K σ) hk (by decide) (fun h n u hV => (ct_X5_air l G _ σ.1 d0 h n u (hV.1.2.2.2.2.1 d0 hd)).post fun r h1 n1 u1 q => by obtain ⟨x, e1, e2, rfl, rfl, rfl⟩ := q; exact ⟨x, e1, e2, hV⟩) rfl (List.mem_of_getElem? (i := 0) rfl) (fun h n u hV => ⟨_, hV.1.2.2.2.2.1 d0 hd⟩) (lw_F hlink q1066 q1068 q70 q1070) hd1 (fun h n u hV => by obtain ⟨-, q1, q2, q3, q4, -⟩ := hV; obtain ⟨g1, g2⟩ := hs; exact ⟨by omega, by omega⟩) hst d (fun x hx => by rw [hx]; exact hk2)
theorem h_bed_dew (C : Cx G p l s m args meth c A y cc nL rt) (hs : s.heap.size = n0 ∧ slT s.heap = u0) {index count k B : Nat} (hB : B < 5) (hk : 1 < k) (hlink : Cond.methodLink y.cls index ⟨"MaltDrums$Bed", "dew", "()I"⟩ ∈ lw_all) (hst : (st.map fun v => v.category).sum ≤ 8) (d : decode cc pc = .ok (.invokeinterface index count, 5)) (kk : AW G p l e (aRm k K (2 * K)) s m args below meth c A nL Q (HW h0 n0 u0 a K σ) (pc + 5) L (.int (hDew σ B) :: st)) : AW G p l e (aRm k K (2 * K)) s m args below meth c A nL Q (HW h0 n0 u0 a K σ) pc L (.ref (a + 9 + B) :: st) := by
  have hd1 : aSig ⟨"MaltDrums$Bed", "dew", "()I"⟩ 0 := by decide +kernel
  by_cases z : B = 0
  · subst z
    exact a_callFD C (vs := []) (ci := 2) (r0 := (RX4, TX4, 1)) (y1 := yX3_dew) (mc := 0) (ms := 0) (fun x : Int32 => some (.int x)) (fun x => x = 3) (fun _ => HW h0 n0 u0 a K σ) hk (by decide) (fun h n u hV => (ct_X3_dew l G _ h n u).post fun r h1 n1 u1 q => by obtain ⟨x, e1, e2, rfl, rfl, rfl⟩ := q; exact ⟨x, e1, e2, hV⟩) rfl (List.mem_of_getElem? (i := 0) rfl) (fun h n u hV => ⟨_, hV.1.2.2.2.1⟩) hlink q1087 q67 (lw_meth q1089) hd1 (fun h n u hV => by obtain ⟨-, q1, q2, q3, q4, -⟩ := hV; obtain ⟨g1, g2⟩ := hs; exact ⟨by omega, by omega⟩) hst d (fun x hx => by rw [hx]; exact kk)
  · obtain ⟨d0, rfl⟩ : ∃ d0, B = 1 + d0 := ⟨B - 1, by omega⟩
    have hd : d0 < 4 := by omega
    have hk2 : AW G p l e (aRm k K (2 * K)) s m args below meth c A nL Q (HW h0 n0 u0 a K σ) (pc + 5) L (.int (σ.1 9 d0) :: st) := by
      have e1 : hDew σ (1 + d0) = σ.1 9 d0 := by simp [hDew]
      rw [← e1]
      exact kk
    exact a_callF C (vs := []) (ci := 3) (r0 := (RX5, TX5, 4)) (y1 := yX5_dew) (mc := 0) (ms := 0) (fun x : Int32 => some (.int x)) (fun x => x = σ.1 9 d0) (fun _ => HW h0 n0 u0 a K σ) hk (by decide) (fun h n u hV => (ct_X5_dew l G _ σ.1 d0 h n u (hV.1.2.2.2.2.1 d0 hd)).post fun r h1 n1 u1 q => by obtain ⟨x, e1, e2, rfl, rfl, rfl⟩ := q; exact ⟨x, e1, e2, hV⟩) rfl (List.mem_of_getElem? (i := 2) rfl) (fun h n u hV => ⟨_, hV.1.2.2.2.2.1 d0 hd⟩) (lw_F hlink q1081 q1083 q70 q1085) hd1 (fun h n u hV => by obtain ⟨-, q1, q2, q3, q4, -⟩ := hV; obtain ⟨g1, g2⟩ := hs; exact ⟨by omega, by omega⟩) hst d (fun x hx => by rw [hx]; exact hk2)
theorem h_bed_turn (C : Cx G p l s m args meth c A y cc nL rt) (hs : s.heap.size = n0 ∧ slT s.heap = u0) {index count k B : Nat} (hB : B < 5) (hk : 1 < k) (hlink : Cond.methodLink y.cls index ⟨"MaltDrums$Bed", "turn", "()I"⟩ ∈ lw_all) (hst : (st.map fun v => v.category).sum ≤ 8) (d : decode cc pc = .ok (.invokeinterface index count, 5)) (kk : AW G p l e (aRm k K (2 * K)) s m args below meth c A nL Q (HW h0 n0 u0 a K σ) (pc + 5) L (.int (hTurn σ B) :: st)) : AW G p l e (aRm k K (2 * K)) s m args below meth c A nL Q (HW h0 n0 u0 a K σ) pc L (.ref (a + 9 + B) :: st) := by
  have hd1 : aSig ⟨"MaltDrums$Bed", "turn", "()I"⟩ 0 := by decide +kernel
  by_cases z : B = 0
  · subst z
    exact a_callFD C (vs := []) (ci := 2) (r0 := (RX4, TX4, 1)) (y1 := yX3_turn) (mc := 0) (ms := 0) (fun x : Int32 => some (.int x)) (fun x => x = 0) (fun _ => HW h0 n0 u0 a K σ) hk (by decide) (fun h n u hV => (ct_X3_turn l G _ h n u).post fun r h1 n1 u1 q => by obtain ⟨x, e1, e2, rfl, rfl, rfl⟩ := q; exact ⟨x, e1, e2, hV⟩) rfl (List.mem_of_getElem? (i := 1) rfl) (fun h n u hV => ⟨_, hV.1.2.2.2.1⟩) hlink q1113 q67 (lw_meth q1115) hd1 (fun h n u hV => by obtain ⟨-, q1, q2, q3, q4, -⟩ := hV; obtain ⟨g1, g2⟩ := hs; exact ⟨by omega, by omega⟩) hst d (fun x hx => by rw [hx]; exact kk)
  · obtain ⟨d0, rfl⟩ : ∃ d0, B = 1 + d0 := ⟨B - 1, by omega⟩
    have hd : d0 < 4 := by omega
    have hk2 : AW G p l e (aRm k K (2 * K)) s m args below meth c A nL Q (HW h0 n0 u0 a K σ) (pc + 5) L (.int (σ.1 10 d0) :: st) := by
      have e1 : hTurn σ (1 + d0) = σ.1 10 d0 := by simp [hTurn]
      rw [← e1]
      exact kk
    exact a_callF C (vs := []) (ci := 3) (r0 := (RX5, TX5, 4)) (y1 := yX5_turn) (mc := 0) (ms := 0) (fun x : Int32 => some (.int x)) (fun x => x = σ.1 10 d0) (fun _ => HW h0 n0 u0 a K σ) hk (by decide) (fun h n u hV => (ct_X5_turn l G _ σ.1 d0 h n u (hV.1.2.2.2.2.1 d0 hd)).post fun r h1 n1 u1 q => by obtain ⟨x, e1, e2, rfl, rfl, rfl⟩ := q; exact ⟨x, e1, e2, hV⟩) rfl (List.mem_of_getElem? (i := 3) rfl) (fun h n u hV => ⟨_, hV.1.2.2.2.2.1 d0 hd⟩) (lw_F hlink q1107 q1109 q70 q1111) hd1 (fun h n u hV => by obtain ⟨-, q1, q2, q3, q4, -⟩ := hV; obtain ⟨g1, g2⟩ := hs; exact ⟨by omega, by omega⟩) hst d (fun x hx => by rw [hx]; exact hk2)
theorem h_bed_isHeap (C : Cx G p l s m args meth c A y cc nL rt) (hs : s.heap.size = n0 ∧ slT s.heap = u0) {index count k B : Nat} (hB : B < 5) (hk : 1 < k) (hlink : Cond.methodLink y.cls index ⟨"MaltDrums$Bed", "isHeap", "()Z"⟩ ∈ lw_all) (hst : (st.map fun v => v.category).sum ≤ 8) (d : decode cc pc = .ok (.invokeinterface index count, 5)) (kk : AW G p l e (aRm k K (2 * K)) s m args below meth c A nL Q (HW h0 n0 u0 a K σ) (pc + 5) L (.int (hIsHeap B) :: st)) : AW G p l e (aRm k K (2 * K)) s m args below meth c A nL Q (HW h0 n0 u0 a K σ) pc L (.ref (a + 9 + B) :: st) := by
  have hd1 : aSig ⟨"MaltDrums$Bed", "isHeap", "()Z"⟩ 0 := by decide +kernel
  by_cases z : B = 0
  · subst z
    exact a_callFD C (vs := []) (ci := 2) (r0 := (RX4, TX4, 1)) (y1 := yX3_isHeap) (mc := 0) (ms := 0) (fun x : Int32 => some (.int x)) (fun x => x = 1) (fun _ => HW h0 n0 u0 a K σ) hk (by decide) (fun h n u hV => (ct_X3_isHeap l G _ h n u).post fun r h1 n1 u1 q => by obtain ⟨x, e1, e2, rfl, rfl, rfl⟩ := q; exact ⟨x, e1, e2, hV⟩) rfl (List.mem_of_getElem? (i := 2) rfl) (fun h n u hV => ⟨_, hV.1.2.2.2.1⟩) hlink q1100 q67 (lw_meth q1102) hd1 (fun h n u hV => by obtain ⟨-, q1, q2, q3, q4, -⟩ := hV; obtain ⟨g1, g2⟩ := hs; exact ⟨by omega, by omega⟩) hst d (fun x hx => by rw [hx]; exact kk)
  · obtain ⟨d0, rfl⟩ : ∃ d0, B = 1 + d0 := ⟨B - 1, by omega⟩
    have hd : d0 < 4 := by omega
    have hk2 : AW G p l e (aRm k K (2 * K)) s m args below meth c A nL Q (HW h0 n0 u0 a K σ) (pc + 5) L (.int (0) :: st) := by
      have e1 : hIsHeap (1 + d0) = 0 := by simp [hIsHeap]
      rw [← e1]
      exact kk
    exact a_callF C (vs := []) (ci := 3) (r0 := (RX5, TX5, 4)) (y1 := yX5_isHeap) (mc := 0) (ms := 0) (fun x : Int32 => some (.int x)) (fun x => x = 0) (fun _ => HW h0 n0 u0 a K σ) hk (by decide) (fun h n u hV => (ct_X5_isHeap l G _ h n u).post fun r h1 n1 u1 q => by obtain ⟨x, e1, e2, rfl, rfl, rfl⟩ := q; exact ⟨x, e1, e2, hV⟩) rfl (List.mem_of_getElem? (i := 4) rfl) (fun h n u hV => ⟨_, hV.1.2.2.2.2.1 d0 hd⟩) (lw_F hlink q1094 q1096 q70 q1098) hd1 (fun h n u hV => by obtain ⟨-, q1, q2, q3, q4, -⟩ := hV; obtain ⟨g1, g2⟩ := hs; exact ⟨by omega, by omega⟩) hst d (fun x hx => by rw [hx]; exact hk2)
theorem h_callV0i (C : Cx G p l s m args meth c A y cc nL rt) (hs : s.heap.size = n0 ∧ slT s.heap = u0) {y1 : MethodName} {bytes : ByteArray} {maxL k k1 index : Nat} {ret : Option FieldType} {Q0 : Int32 → HS → Prop} (hM : ∀ h n u, HV h a σ → CT l y1 (ws_ y1 bytes maxL ret) k1 G (.ref a :: []) h n u σ.2.2 (2 * σ.2.2) (h_pi Q0 h n u a σ.2.2)) (hk : k1 < k) (hm : maxL ≤ 29) (hcn : RX2 = y1.cls) (hG : GoodIn lw_all (wsV y.cls index y1.cls y1 (ws_ y1 bytes maxL ret))) (hd : aSig y1 0) (hst : (st.map fun v => v.category).sum ≤ 8) (d : decode cc pc = .ok (.invokevirtual index, 3)) (kk : ∀ v σ1, Q0 v σ1 → AW G p l e (aRm k K (2 * K)) s m args below meth c A nL Q (HW h0 n0 u0 a K σ1) (pc + 3) L (.int v :: st)) : AW G p l e (aRm k K (2 * K)) s m args below meth c A nL Q (HW h0 n0 u0 a K σ) pc L (.ref a :: st) :=
  a_callV C (r0 := (RX2, TX2, 22)) (ci := 1) (vs := []) (X := Int32 × HS) (fun x => some (.int x.1)) (fun x => Q0 x.1 x.2) (fun x => HW h0 n0 u0 a K x.2) hk hm (fun h n u hV => (hM h n u hV.1).post fun r h1 n1 u1 q => by obtain ⟨x, e1, e2, e3⟩ := q; exact ⟨x, e1, e2, hV.trans e3⟩) rfl hcn (fun h n u hV => by obtain ⟨⟨b, q1, -⟩, -⟩ := hV.1; exact ⟨_, q1⟩) hG hd (fun h n u hV => by obtain ⟨-, q1, q2, q3, q4, -⟩ := hV; obtain ⟨g1, g2⟩ := hs; exact ⟨by omega, by omega⟩) hst d (fun x hx => kk x.1 x.2 hx)
theorem h_callV0v (C : Cx G p l s m args meth c A y cc nL rt) (hs : s.heap.size = n0 ∧ slT s.heap = u0) {y1 : MethodName} {bytes : ByteArray} {maxL k k1 index : Nat} {ret : Option FieldType} {Q0 : HS → Prop} (hM : ∀ h n u, HV h a σ → CT l y1 (ws_ y1 bytes maxL ret) k1 G (.ref a :: []) h n u σ.2.2 (2 * σ.2.2) (h_pv Q0 h n u a σ.2.2)) (hk : k1 < k) (hm : maxL ≤ 29) (hcn : RX2 = y1.cls) (hG : GoodIn lw_all (wsV y.cls index y1.cls y1 (ws_ y1 bytes maxL ret))) (hd : aSig y1 0) (hst : (st.map fun v => v.category).sum ≤ 8) (d : decode cc pc = .ok (.invokevirtual index, 3)) (kk : ∀ σ1, Q0 σ1 → AW G p l e (aRm k K (2 * K)) s m args below meth c A nL Q (HW h0 n0 u0 a K σ1) (pc + 3) L st) : AW G p l e (aRm k K (2 * K)) s m args below meth c A nL Q (HW h0 n0 u0 a K σ) pc L (.ref a :: st) :=
  a_callV C (r0 := (RX2, TX2, 22)) (ci := 1) (vs := []) (X := HS) (fun _ => none) Q0 (fun x => HW h0 n0 u0 a K x) hk hm (fun h n u hV => (hM h n u hV.1).post fun r h1 n1 u1 q => by obtain ⟨x, e1, e2, e3⟩ := q; exact ⟨x, e1, e2, hV.trans e3⟩) rfl hcn (fun h n u hV => by obtain ⟨⟨b, q1, -⟩, -⟩ := hV.1; exact ⟨_, q1⟩) hG hd (fun h n u hV => by obtain ⟨-, q1, q2, q3, q4, -⟩ := hV; obtain ⟨g1, g2⟩ := hs; exact ⟨by omega, by omega⟩) hst d kk
theorem h_callV0b (C : Cx G p l s m args meth c A y cc nL rt) (hs : s.heap.size = n0 ∧ slT s.heap = u0) {y1 : MethodName} {bytes : ByteArray} {maxL k k1 index : Nat} {ret : Option FieldType} {Q0 : Nat → HS → Prop} (hM : ∀ h n u, HV h a σ → CT l y1 (ws_ y1 bytes maxL ret) k1 G (.ref a :: []) h n u σ.2.2 (2 * σ.2.2) (h_pb Q0 h n u a σ.2.2)) (hk : k1 < k) (hm : maxL ≤ 29) (hcn : RX2 = y1.cls) (hG : GoodIn lw_all (wsV y.cls index y1.cls y1 (ws_ y1 bytes maxL ret))) (hd : aSig y1 0) (hst : (st.map fun v => v.category).sum ≤ 8) (d : decode cc pc = .ok (.invokevirtual index, 3)) (kk : ∀ v σ1, Q0 v σ1 → AW G p l e (aRm k K (2 * K)) s m args below meth c A nL Q (HW h0 n0 u0 a K σ1) (pc + 3) L (.ref (a + 9 + v) :: st)) : AW G p l e (aRm k K (2 * K)) s m args below meth c A nL Q (HW h0 n0 u0 a K σ) pc L (.ref a :: st) :=
  a_callV C (r0 := (RX2, TX2, 22)) (ci := 1) (vs := []) (X := Nat × HS) (fun x => some (.ref (a + 9 + x.1))) (fun x => Q0 x.1 x.2) (fun x => HW h0 n0 u0 a K x.2) hk hm (fun h n u hV => (hM h n u hV.1).post fun r h1 n1 u1 q => by obtain ⟨x, e1, e2, e3⟩ := q; exact ⟨x, e1, e2, hV.trans e3⟩) rfl hcn (fun h n u hV => by obtain ⟨⟨b, q1, -⟩, -⟩ := hV.1; exact ⟨_, q1⟩) hG hd (fun h n u hV => by obtain ⟨-, q1, q2, q3, q4, -⟩ := hV; obtain ⟨g1, g2⟩ := hs; exact ⟨by omega, by omega⟩) hst d (fun x hx => kk x.1 x.2 hx)
theorem h_callV1i (C : Cx G p l s m args meth c A y cc nL rt) (hs : s.heap.size = n0 ∧ slT s.heap = u0) {y1 : MethodName} {bytes : ByteArray} {maxL k k1 index : Nat} {ret : Option FieldType} {v1 : Value} {Q0 : Int32 → HS → Prop} (hM : ∀ h n u, HV h a σ → CT l y1 (ws_ y1 bytes maxL ret) k1 G (.ref a :: [v1]) h n u σ.2.2 (2 * σ.2.2) (h_pi Q0 h n u a σ.2.2)) (hk : k1 < k) (hm : maxL ≤ 29) (hcn : RX2 = y1.cls) (hG : GoodIn lw_all (wsV y.cls index y1.cls y1 (ws_ y1 bytes maxL ret))) (hd : aSig y1 1) (hst : (st.map fun v => v.category).sum ≤ 8) (d : decode cc pc = .ok (.invokevirtual index, 3)) (kk : ∀ v σ1, Q0 v σ1 → AW G p l e (aRm k K (2 * K)) s m args below meth c A nL Q (HW h0 n0 u0 a K σ1) (pc + 3) L (.int v :: st)) : AW G p l e (aRm k K (2 * K)) s m args below meth c A nL Q (HW h0 n0 u0 a K σ) pc L (v1 :: .ref a :: st) :=
  a_callV C (r0 := (RX2, TX2, 22)) (ci := 1) (vs := [v1]) (X := Int32 × HS) (fun x => some (.int x.1)) (fun x => Q0 x.1 x.2) (fun x => HW h0 n0 u0 a K x.2) hk hm (fun h n u hV => (hM h n u hV.1).post fun r h1 n1 u1 q => by obtain ⟨x, e1, e2, e3⟩ := q; exact ⟨x, e1, e2, hV.trans e3⟩) rfl hcn (fun h n u hV => by obtain ⟨⟨b, q1, -⟩, -⟩ := hV.1; exact ⟨_, q1⟩) hG hd (fun h n u hV => by obtain ⟨-, q1, q2, q3, q4, -⟩ := hV; obtain ⟨g1, g2⟩ := hs; exact ⟨by omega, by omega⟩) hst d (fun x hx => kk x.1 x.2 hx)
theorem h_callV1v (C : Cx G p l s m args meth c A y cc nL rt) (hs : s.heap.size = n0 ∧ slT s.heap = u0) {y1 : MethodName} {bytes : ByteArray} {maxL k k1 index : Nat} {ret : Option FieldType} {v1 : Value} {Q0 : HS → Prop} (hM : ∀ h n u, HV h a σ → CT l y1 (ws_ y1 bytes maxL ret) k1 G (.ref a :: [v1]) h n u σ.2.2 (2 * σ.2.2) (h_pv Q0 h n u a σ.2.2)) (hk : k1 < k) (hm : maxL ≤ 29) (hcn : RX2 = y1.cls) (hG : GoodIn lw_all (wsV y.cls index y1.cls y1 (ws_ y1 bytes maxL ret))) (hd : aSig y1 1) (hst : (st.map fun v => v.category).sum ≤ 8) (d : decode cc pc = .ok (.invokevirtual index, 3)) (kk : ∀ σ1, Q0 σ1 → AW G p l e (aRm k K (2 * K)) s m args below meth c A nL Q (HW h0 n0 u0 a K σ1) (pc + 3) L st) : AW G p l e (aRm k K (2 * K)) s m args below meth c A nL Q (HW h0 n0 u0 a K σ) pc L (v1 :: .ref a :: st) :=
  a_callV C (r0 := (RX2, TX2, 22)) (ci := 1) (vs := [v1]) (X := HS) (fun _ => none) Q0 (fun x => HW h0 n0 u0 a K x) hk hm (fun h n u hV => (hM h n u hV.1).post fun r h1 n1 u1 q => by obtain ⟨x, e1, e2, e3⟩ := q; exact ⟨x, e1, e2, hV.trans e3⟩) rfl hcn (fun h n u hV => by obtain ⟨⟨b, q1, -⟩, -⟩ := hV.1; exact ⟨_, q1⟩) hG hd (fun h n u hV => by obtain ⟨-, q1, q2, q3, q4, -⟩ := hV; obtain ⟨g1, g2⟩ := hs; exact ⟨by omega, by omega⟩) hst d kk
theorem h_callV1b (C : Cx G p l s m args meth c A y cc nL rt) (hs : s.heap.size = n0 ∧ slT s.heap = u0) {y1 : MethodName} {bytes : ByteArray} {maxL k k1 index : Nat} {ret : Option FieldType} {v1 : Value} {Q0 : Nat → HS → Prop} (hM : ∀ h n u, HV h a σ → CT l y1 (ws_ y1 bytes maxL ret) k1 G (.ref a :: [v1]) h n u σ.2.2 (2 * σ.2.2) (h_pb Q0 h n u a σ.2.2)) (hk : k1 < k) (hm : maxL ≤ 29) (hcn : RX2 = y1.cls) (hG : GoodIn lw_all (wsV y.cls index y1.cls y1 (ws_ y1 bytes maxL ret))) (hd : aSig y1 1) (hst : (st.map fun v => v.category).sum ≤ 8) (d : decode cc pc = .ok (.invokevirtual index, 3)) (kk : ∀ v σ1, Q0 v σ1 → AW G p l e (aRm k K (2 * K)) s m args below meth c A nL Q (HW h0 n0 u0 a K σ1) (pc + 3) L (.ref (a + 9 + v) :: st)) : AW G p l e (aRm k K (2 * K)) s m args below meth c A nL Q (HW h0 n0 u0 a K σ) pc L (v1 :: .ref a :: st) :=
  a_callV C (r0 := (RX2, TX2, 22)) (ci := 1) (vs := [v1]) (X := Nat × HS) (fun x => some (.ref (a + 9 + x.1))) (fun x => Q0 x.1 x.2) (fun x => HW h0 n0 u0 a K x.2) hk hm (fun h n u hV => (hM h n u hV.1).post fun r h1 n1 u1 q => by obtain ⟨x, e1, e2, e3⟩ := q; exact ⟨x, e1, e2, hV.trans e3⟩) rfl hcn (fun h n u hV => by obtain ⟨⟨b, q1, -⟩, -⟩ := hV.1; exact ⟨_, q1⟩) hG hd (fun h n u hV => by obtain ⟨-, q1, q2, q3, q4, -⟩ := hV; obtain ⟨g1, g2⟩ := hs; exact ⟨by omega, by omega⟩) hst d (fun x hx => kk x.1 x.2 hx)
theorem h_callV2i (C : Cx G p l s m args meth c A y cc nL rt) (hs : s.heap.size = n0 ∧ slT s.heap = u0) {y1 : MethodName} {bytes : ByteArray} {maxL k k1 index : Nat} {ret : Option FieldType} {v1 v2 : Value} {Q0 : Int32 → HS → Prop} (hM : ∀ h n u, HV h a σ → CT l y1 (ws_ y1 bytes maxL ret) k1 G (.ref a :: [v1, v2]) h n u σ.2.2 (2 * σ.2.2) (h_pi Q0 h n u a σ.2.2)) (hk : k1 < k) (hm : maxL ≤ 29) (hcn : RX2 = y1.cls) (hG : GoodIn lw_all (wsV y.cls index y1.cls y1 (ws_ y1 bytes maxL ret))) (hd : aSig y1 2) (hst : (st.map fun v => v.category).sum ≤ 8) (d : decode cc pc = .ok (.invokevirtual index, 3)) (kk : ∀ v σ1, Q0 v σ1 → AW G p l e (aRm k K (2 * K)) s m args below meth c A nL Q (HW h0 n0 u0 a K σ1) (pc + 3) L (.int v :: st)) : AW G p l e (aRm k K (2 * K)) s m args below meth c A nL Q (HW h0 n0 u0 a K σ) pc L (v2 :: v1 :: .ref a :: st) :=
  a_callV C (r0 := (RX2, TX2, 22)) (ci := 1) (vs := [v1, v2]) (X := Int32 × HS) (fun x => some (.int x.1)) (fun x => Q0 x.1 x.2) (fun x => HW h0 n0 u0 a K x.2) hk hm (fun h n u hV => (hM h n u hV.1).post fun r h1 n1 u1 q => by obtain ⟨x, e1, e2, e3⟩ := q; exact ⟨x, e1, e2, hV.trans e3⟩) rfl hcn (fun h n u hV => by obtain ⟨⟨b, q1, -⟩, -⟩ := hV.1; exact ⟨_, q1⟩) hG hd (fun h n u hV => by obtain ⟨-, q1, q2, q3, q4, -⟩ := hV; obtain ⟨g1, g2⟩ := hs; exact ⟨by omega, by omega⟩) hst d (fun x hx => kk x.1 x.2 hx)
theorem h_callV2v (C : Cx G p l s m args meth c A y cc nL rt) (hs : s.heap.size = n0 ∧ slT s.heap = u0) {y1 : MethodName} {bytes : ByteArray} {maxL k k1 index : Nat} {ret : Option FieldType} {v1 v2 : Value} {Q0 : HS → Prop} (hM : ∀ h n u, HV h a σ → CT l y1 (ws_ y1 bytes maxL ret) k1 G (.ref a :: [v1, v2]) h n u σ.2.2 (2 * σ.2.2) (h_pv Q0 h n u a σ.2.2)) (hk : k1 < k) (hm : maxL ≤ 29) (hcn : RX2 = y1.cls) (hG : GoodIn lw_all (wsV y.cls index y1.cls y1 (ws_ y1 bytes maxL ret))) (hd : aSig y1 2) (hst : (st.map fun v => v.category).sum ≤ 8) (d : decode cc pc = .ok (.invokevirtual index, 3)) (kk : ∀ σ1, Q0 σ1 → AW G p l e (aRm k K (2 * K)) s m args below meth c A nL Q (HW h0 n0 u0 a K σ1) (pc + 3) L st) : AW G p l e (aRm k K (2 * K)) s m args below meth c A nL Q (HW h0 n0 u0 a K σ) pc L (v2 :: v1 :: .ref a :: st) :=
  a_callV C (r0 := (RX2, TX2, 22)) (ci := 1) (vs := [v1, v2]) (X := HS) (fun _ => none) Q0 (fun x => HW h0 n0 u0 a K x) hk hm (fun h n u hV => (hM h n u hV.1).post fun r h1 n1 u1 q => by obtain ⟨x, e1, e2, e3⟩ := q; exact ⟨x, e1, e2, hV.trans e3⟩) rfl hcn (fun h n u hV => by obtain ⟨⟨b, q1, -⟩, -⟩ := hV.1; exact ⟨_, q1⟩) hG hd (fun h n u hV => by obtain ⟨-, q1, q2, q3, q4, -⟩ := hV; obtain ⟨g1, g2⟩ := hs; exact ⟨by omega, by omega⟩) hst d kk
theorem h_callV2b (C : Cx G p l s m args meth c A y cc nL rt) (hs : s.heap.size = n0 ∧ slT s.heap = u0) {y1 : MethodName} {bytes : ByteArray} {maxL k k1 index : Nat} {ret : Option FieldType} {v1 v2 : Value} {Q0 : Nat → HS → Prop} (hM : ∀ h n u, HV h a σ → CT l y1 (ws_ y1 bytes maxL ret) k1 G (.ref a :: [v1, v2]) h n u σ.2.2 (2 * σ.2.2) (h_pb Q0 h n u a σ.2.2)) (hk : k1 < k) (hm : maxL ≤ 29) (hcn : RX2 = y1.cls) (hG : GoodIn lw_all (wsV y.cls index y1.cls y1 (ws_ y1 bytes maxL ret))) (hd : aSig y1 2) (hst : (st.map fun v => v.category).sum ≤ 8) (d : decode cc pc = .ok (.invokevirtual index, 3)) (kk : ∀ v σ1, Q0 v σ1 → AW G p l e (aRm k K (2 * K)) s m args below meth c A nL Q (HW h0 n0 u0 a K σ1) (pc + 3) L (.ref (a + 9 + v) :: st)) : AW G p l e (aRm k K (2 * K)) s m args below meth c A nL Q (HW h0 n0 u0 a K σ) pc L (v2 :: v1 :: .ref a :: st) :=
  a_callV C (r0 := (RX2, TX2, 22)) (ci := 1) (vs := [v1, v2]) (X := Nat × HS) (fun x => some (.ref (a + 9 + x.1))) (fun x => Q0 x.1 x.2) (fun x => HW h0 n0 u0 a K x.2) hk hm (fun h n u hV => (hM h n u hV.1).post fun r h1 n1 u1 q => by obtain ⟨x, e1, e2, e3⟩ := q; exact ⟨x, e1, e2, hV.trans e3⟩) rfl hcn (fun h n u hV => by obtain ⟨⟨b, q1, -⟩, -⟩ := hV.1; exact ⟨_, q1⟩) hG hd (fun h n u hV => by obtain ⟨-, q1, q2, q3, q4, -⟩ := hV; obtain ⟨g1, g2⟩ := hs; exact ⟨by omega, by omega⟩) hst d (fun x hx => kk x.1 x.2 hx)
theorem h_callV3i (C : Cx G p l s m args meth c A y cc nL rt) (hs : s.heap.size = n0 ∧ slT s.heap = u0) {y1 : MethodName} {bytes : ByteArray} {maxL k k1 index : Nat} {ret : Option FieldType} {v1 v2 v3 : Value} {Q0 : Int32 → HS → Prop} (hM : ∀ h n u, HV h a σ → CT l y1 (ws_ y1 bytes maxL ret) k1 G (.ref a :: [v1, v2, v3]) h n u σ.2.2 (2 * σ.2.2) (h_pi Q0 h n u a σ.2.2)) (hk : k1 < k) (hm : maxL ≤ 29) (hcn : RX2 = y1.cls) (hG : GoodIn lw_all (wsV y.cls index y1.cls y1 (ws_ y1 bytes maxL ret))) (hd : aSig y1 3) (hst : (st.map fun v => v.category).sum ≤ 8) (d : decode cc pc = .ok (.invokevirtual index, 3)) (kk : ∀ v σ1, Q0 v σ1 → AW G p l e (aRm k K (2 * K)) s m args below meth c A nL Q (HW h0 n0 u0 a K σ1) (pc + 3) L (.int v :: st)) : AW G p l e (aRm k K (2 * K)) s m args below meth c A nL Q (HW h0 n0 u0 a K σ) pc L (v3 :: v2 :: v1 :: .ref a :: st) :=
  a_callV C (r0 := (RX2, TX2, 22)) (ci := 1) (vs := [v1, v2, v3]) (X := Int32 × HS) (fun x => some (.int x.1)) (fun x => Q0 x.1 x.2) (fun x => HW h0 n0 u0 a K x.2) hk hm (fun h n u hV => (hM h n u hV.1).post fun r h1 n1 u1 q => by obtain ⟨x, e1, e2, e3⟩ := q; exact ⟨x, e1, e2, hV.trans e3⟩) rfl hcn (fun h n u hV => by obtain ⟨⟨b, q1, -⟩, -⟩ := hV.1; exact ⟨_, q1⟩) hG hd (fun h n u hV => by obtain ⟨-, q1, q2, q3, q4, -⟩ := hV; obtain ⟨g1, g2⟩ := hs; exact ⟨by omega, by omega⟩) hst d (fun x hx => kk x.1 x.2 hx)
theorem h_callV3v (C : Cx G p l s m args meth c A y cc nL rt) (hs : s.heap.size = n0 ∧ slT s.heap = u0) {y1 : MethodName} {bytes : ByteArray} {maxL k k1 index : Nat} {ret : Option FieldType} {v1 v2 v3 : Value} {Q0 : HS → Prop} (hM : ∀ h n u, HV h a σ → CT l y1 (ws_ y1 bytes maxL ret) k1 G (.ref a :: [v1, v2, v3]) h n u σ.2.2 (2 * σ.2.2) (h_pv Q0 h n u a σ.2.2)) (hk : k1 < k) (hm : maxL ≤ 29) (hcn : RX2 = y1.cls) (hG : GoodIn lw_all (wsV y.cls index y1.cls y1 (ws_ y1 bytes maxL ret))) (hd : aSig y1 3) (hst : (st.map fun v => v.category).sum ≤ 8) (d : decode cc pc = .ok (.invokevirtual index, 3)) (kk : ∀ σ1, Q0 σ1 → AW G p l e (aRm k K (2 * K)) s m args below meth c A nL Q (HW h0 n0 u0 a K σ1) (pc + 3) L st) : AW G p l e (aRm k K (2 * K)) s m args below meth c A nL Q (HW h0 n0 u0 a K σ) pc L (v3 :: v2 :: v1 :: .ref a :: st) :=
  a_callV C (r0 := (RX2, TX2, 22)) (ci := 1) (vs := [v1, v2, v3]) (X := HS) (fun _ => none) Q0 (fun x => HW h0 n0 u0 a K x) hk hm (fun h n u hV => (hM h n u hV.1).post fun r h1 n1 u1 q => by obtain ⟨x, e1, e2, e3⟩ := q; exact ⟨x, e1, e2, hV.trans e3⟩) rfl hcn (fun h n u hV => by obtain ⟨⟨b, q1, -⟩, -⟩ := hV.1; exact ⟨_, q1⟩) hG hd (fun h n u hV => by obtain ⟨-, q1, q2, q3, q4, -⟩ := hV; obtain ⟨g1, g2⟩ := hs; exact ⟨by omega, by omega⟩) hst d kk
theorem h_callV3b (C : Cx G p l s m args meth c A y cc nL rt) (hs : s.heap.size = n0 ∧ slT s.heap = u0) {y1 : MethodName} {bytes : ByteArray} {maxL k k1 index : Nat} {ret : Option FieldType} {v1 v2 v3 : Value} {Q0 : Nat → HS → Prop} (hM : ∀ h n u, HV h a σ → CT l y1 (ws_ y1 bytes maxL ret) k1 G (.ref a :: [v1, v2, v3]) h n u σ.2.2 (2 * σ.2.2) (h_pb Q0 h n u a σ.2.2)) (hk : k1 < k) (hm : maxL ≤ 29) (hcn : RX2 = y1.cls) (hG : GoodIn lw_all (wsV y.cls index y1.cls y1 (ws_ y1 bytes maxL ret))) (hd : aSig y1 3) (hst : (st.map fun v => v.category).sum ≤ 8) (d : decode cc pc = .ok (.invokevirtual index, 3)) (kk : ∀ v σ1, Q0 v σ1 → AW G p l e (aRm k K (2 * K)) s m args below meth c A nL Q (HW h0 n0 u0 a K σ1) (pc + 3) L (.ref (a + 9 + v) :: st)) : AW G p l e (aRm k K (2 * K)) s m args below meth c A nL Q (HW h0 n0 u0 a K σ) pc L (v3 :: v2 :: v1 :: .ref a :: st) :=
  a_callV C (r0 := (RX2, TX2, 22)) (ci := 1) (vs := [v1, v2, v3]) (X := Nat × HS) (fun x => some (.ref (a + 9 + x.1))) (fun x => Q0 x.1 x.2) (fun x => HW h0 n0 u0 a K x.2) hk hm (fun h n u hV => (hM h n u hV.1).post fun r h1 n1 u1 q => by obtain ⟨x, e1, e2, e3⟩ := q; exact ⟨x, e1, e2, hV.trans e3⟩) rfl hcn (fun h n u hV => by obtain ⟨⟨b, q1, -⟩, -⟩ := hV.1; exact ⟨_, q1⟩) hG hd (fun h n u hV => by obtain ⟨-, q1, q2, q3, q4, -⟩ := hV; obtain ⟨g1, g2⟩ := hs; exact ⟨by omega, by omega⟩) hst d (fun x hx => kk x.1 x.2 hx)
theorem h_callS1p (C : Cx G p l s m args meth c A y cc nL rt) (hs : s.heap.size = n0 ∧ slT s.heap = u0) {y1 : MethodName} {bytes : ByteArray} {maxL k k1 index : Nat} {ret : Option FieldType} {v1 : Value} {Q0 : Int32 → Prop} (hM : ∀ h n u, CT l y1 (ws_ y1 bytes maxL ret) k1 G [v1] h n u 0 0 (s_pi Q0 h n u)) (hk : k1 < k) (hm : maxL ≤ 29) (hG : GoodIn lw_all (va_wsS y.cls index y1 (ws_ y1 bytes maxL ret))) (hd : aSig y1 1) (hst : (st.map fun v => v.category).sum ≤ 8) (d : decode cc pc = .ok (.invokestatic index, 3)) (kk : ∀ v, Q0 v → AW G p l e (aRm k K (2 * K)) s m args below meth c A nL Q (HW h0 n0 u0 a K σ) (pc + 3) L (.int v :: st)) : AW G p l e (aRm k K (2 * K)) s m args below meth c A nL Q (HW h0 n0 u0 a K σ) pc L (v1 :: st) :=
  a_callS C (vs := [v1]) (X := Int32) (fun x => some (.int x)) Q0 (fun _ => HW h0 n0 u0 a K σ) hk hm (fun h n u hV => (hM h n u).post fun r h1 n1 u1 q => by obtain ⟨x, e1, e2, rfl, rfl, rfl⟩ := q; exact ⟨x, e1, e2, hV⟩) hG hd (fun h n u hV => by obtain ⟨-, q1, q2, q3, q4, -⟩ := hV; obtain ⟨g1, g2⟩ := hs; exact ⟨by omega, by omega⟩) hst d kk
theorem h_callS2p (C : Cx G p l s m args meth c A y cc nL rt) (hs : s.heap.size = n0 ∧ slT s.heap = u0) {y1 : MethodName} {bytes : ByteArray} {maxL k k1 index : Nat} {ret : Option FieldType} {v1 v2 : Value} {Q0 : Int32 → Prop} (hM : ∀ h n u, CT l y1 (ws_ y1 bytes maxL ret) k1 G [v1, v2] h n u 0 0 (s_pi Q0 h n u)) (hk : k1 < k) (hm : maxL ≤ 29) (hG : GoodIn lw_all (va_wsS y.cls index y1 (ws_ y1 bytes maxL ret))) (hd : aSig y1 2) (hst : (st.map fun v => v.category).sum ≤ 8) (d : decode cc pc = .ok (.invokestatic index, 3)) (kk : ∀ v, Q0 v → AW G p l e (aRm k K (2 * K)) s m args below meth c A nL Q (HW h0 n0 u0 a K σ) (pc + 3) L (.int v :: st)) : AW G p l e (aRm k K (2 * K)) s m args below meth c A nL Q (HW h0 n0 u0 a K σ) pc L (v2 :: v1 :: st) :=
  a_callS C (vs := [v1, v2]) (X := Int32) (fun x => some (.int x)) Q0 (fun _ => HW h0 n0 u0 a K σ) hk hm (fun h n u hV => (hM h n u).post fun r h1 n1 u1 q => by obtain ⟨x, e1, e2, rfl, rfl, rfl⟩ := q; exact ⟨x, e1, e2, hV⟩) hG hd (fun h n u hV => by obtain ⟨-, q1, q2, q3, q4, -⟩ := hV; obtain ⟨g1, g2⟩ := hs; exact ⟨by omega, by omega⟩) hst d kk
theorem h_callS3p (C : Cx G p l s m args meth c A y cc nL rt) (hs : s.heap.size = n0 ∧ slT s.heap = u0) {y1 : MethodName} {bytes : ByteArray} {maxL k k1 index : Nat} {ret : Option FieldType} {v1 v2 v3 : Value} {Q0 : Int32 → Prop} (hM : ∀ h n u, CT l y1 (ws_ y1 bytes maxL ret) k1 G [v1, v2, v3] h n u 0 0 (s_pi Q0 h n u)) (hk : k1 < k) (hm : maxL ≤ 29) (hG : GoodIn lw_all (va_wsS y.cls index y1 (ws_ y1 bytes maxL ret))) (hd : aSig y1 3) (hst : (st.map fun v => v.category).sum ≤ 8) (d : decode cc pc = .ok (.invokestatic index, 3)) (kk : ∀ v, Q0 v → AW G p l e (aRm k K (2 * K)) s m args below meth c A nL Q (HW h0 n0 u0 a K σ) (pc + 3) L (.int v :: st)) : AW G p l e (aRm k K (2 * K)) s m args below meth c A nL Q (HW h0 n0 u0 a K σ) pc L (v3 :: v2 :: v1 :: st) :=
  a_callS C (vs := [v1, v2, v3]) (X := Int32) (fun x => some (.int x)) Q0 (fun _ => HW h0 n0 u0 a K σ) hk hm (fun h n u hV => (hM h n u).post fun r h1 n1 u1 q => by obtain ⟨x, e1, e2, rfl, rfl, rfl⟩ := q; exact ⟨x, e1, e2, hV⟩) hG hd (fun h n u hV => by obtain ⟨-, q1, q2, q3, q4, -⟩ := hV; obtain ⟨g1, g2⟩ := hs; exact ⟨by omega, by omega⟩) hst d kk
theorem h_callN3p (C : Cx G p l s m args meth c A y cc nL rt) (hs : s.heap.size = n0 ∧ slT s.heap = u0) {y1 : MethodName} {bytes : ByteArray} {maxL k k1 index : Nat} {ret : Option FieldType} {v1 v2 v3 : Value} {Q0 : Int32 → Prop} (hM : ∀ h n u, CT l y1 (ws_ y1 bytes maxL ret) k1 G [v1, v2, v3] h n u 0 0 (s_pi Q0 h n u)) (hk : k1 < k) (hm : maxL ≤ 29) {host : String} (hlink : Cond.methodLinkNest y.cls index y1 host ∈ lw_tbl) (hstat : Cond.static y1 ∈ lw_all) (hini : Cond.initialized y1.cls ∈ lw_all) (hG : GoodIn lw_all (ws_ y1 bytes maxL ret)) (hd : aSig y1 3) (hst : (st.map fun v => v.category).sum ≤ 8) (d : decode cc pc = .ok (.invokestatic index, 3)) (kk : ∀ v, Q0 v → AW G p l e (aRm k K (2 * K)) s m args below meth c A nL Q (HW h0 n0 u0 a K σ) (pc + 3) L (.int v :: st)) : AW G p l e (aRm k K (2 * K)) s m args below meth c A nL Q (HW h0 n0 u0 a K σ) pc L (v3 :: v2 :: v1 :: st) :=
  a_callSN C (vs := [v1, v2, v3]) (X := Int32) (fun x => some (.int x)) Q0 (fun _ => HW h0 n0 u0 a K σ) hk hm (fun h n u hV => (hM h n u).post fun r h1 n1 u1 q => by obtain ⟨x, e1, e2, rfl, rfl, rfl⟩ := q; exact ⟨x, e1, e2, hV⟩) hlink hstat hini hG hd (fun h n u hV => by obtain ⟨-, q1, q2, q3, q4, -⟩ := hV; obtain ⟨g1, g2⟩ := hs; exact ⟨by omega, by omega⟩) hst d kk
end HRows
