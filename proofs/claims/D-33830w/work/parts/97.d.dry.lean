set_option maxRecDepth 100000
/-! PLAIN: hours until the kiln is dry -/
def dr (L lo hi : Nat) : Nat → Nat → Nat → Nat
  | 0, _, k => k
  | F + 1, w, k => if max 3 (w - (if L + (k + 1) ≤ 10 then lo else hi)) ≤ 4 then k + 1 else dr L lo hi F (max 3 (w - (if L + (k + 1) ≤ 10 then lo else hi))) (k + 1)
theorem dr_cap {L lo hi : Nat} (hL : 10 ≤ L) : ∀ F w k, dr L lo hi F w k = dr 10 lo hi F w k
  | 0, _, _ => rfl
  | F + 1, w, k => by
    rw [dr, dr, if_neg (show ¬ L + (k + 1) ≤ 10 by omega), if_neg (show ¬ 10 + (k + 1) ≤ 10 by omega), dr_cap hL F]
def hfV (p1 p2 : Int32) : Int32 := if 0 < p1 then ((p1 + p2) - 1) / p2 else 0
def fiV (w e lo hi : Int32) : Int32 := iMax 1 (iMin e (hfV (w - 4) lo) + hfV ((w - (iMin e (hfV (w - 4) lo) * lo)) - 4) hi)
theorem fi_tab0 : ∀ w, w < 46 → ∀ e, e < 11 → ∀ lo, lo < 3 → ∀ hi, hi < 2 → fiV (nI (w + 3)) (nI e) (nI (lo + 1)) (nI (hi + 3)) = nI (dr (10 - e) (lo + 1) (hi + 3) 50 (w + 3) 0) := by decide +kernel
theorem fi_tab {w e lo hi : Nat} (h1 : w < 49) (h2 : 3 ≤ w) (h3 : e < 11) (h4 : lo < 4) (h5 : 1 ≤ lo) (h6 : hi < 5) (h7 : 3 ≤ hi) : fiV (nI w) (nI e) (nI lo) (nI hi) = nI (dr (10 - e) lo hi 50 w 0) := by
  have h := fi_tab0 (w - 3) (by omega) e h3 (lo - 1) (by omega) (hi - 3) (by omega)
  rw [show w - 3 + 3 = w by omega, show lo - 1 + 1 = lo by omega, show hi - 3 + 3 = hi by omega] at h
  exact h
theorem step_tab : ∀ v, v < 49 → ∀ h, h < 100 → 30 ≤ h → imst 3 (nI v - nI h / 20) = nI (max 3 (v - h / 20)) := by decide +kernel
theorem div_tab : ∀ h, h < 100 → nI h / 20 = nI (h / 20) := by decide +kernel
section DY
variable {T T' x out n j q c d k w : Nat} {σ σ0 : OS} {μ μ' : MS} {z z' : Zz} {a b p p2 : Int32}
def WD (z : Zz) (n w : Nat) : Prop := (∃ j, j < n ∧ ofz z j 0 = 4 ∧ ofz z j 4 = nI w) ∧ ∀ j, j < n → ofz z j 0 = 4 → ∃ v, v ≤ w ∧ ofz z j 4 = nI v
def wx (z : Zz) : Nat → Int32
  | 0 => 0
  | k + 1 => if ofz z k 0 = 4 then imst (wx z k) (ofz z k 4) else wx z k
theorem wx_ok (hl : ∀ j, j < n → LI (ofz z j)) : ∀ k, k ≤ n → ∃ m, m ≤ 48 ∧ wx z k = nI m ∧ (∀ j, j < k → ofz z j 0 = 4 → ∃ v, v ≤ m ∧ ofz z j 4 = nI v) ∧ ((m = 0 ∧ ∀ j, j < k → ofz z j 0 ≠ 4) ∨ (3 ≤ m ∧ ∃ j, j < k ∧ ofz z j 0 = 4 ∧ ofz z j 4 = nI m))
  | 0, _ => ⟨0, by decide, rfl, fun j hj => absurd hj (Nat.not_lt_zero _), Or.inl ⟨rfl, fun j hj => absurd hj (Nat.not_lt_zero _)⟩⟩
  | k + 1, h => by
    obtain ⟨m, h1, h2, h3, h4⟩ := wx_ok hl k (by omega)
    rw [wx]
    by_cases c4 : ofz z k 0 = 4
    · rw [if_pos c4, h2]
      have hw := (hl k (by omega)).2.2.1
      obtain ⟨v, hv, ev⟩ := to_nI (x := ofz z k 4) (n := 48) (by omega) (by omega)
      have hv3 : 3 ≤ v := by
        rw [ev, nI_toInt (by omega)] at hw
        omega
      rw [ev]
      unfold imst
      by_cases cm : m ≤ v
      · rw [if_pos (nI_le cm (by omega))]
        refine ⟨v, hv, rfl, fun j hj e4 => ?_, Or.inr ⟨hv3, k, by omega, c4, ev⟩⟩
        by_cases e : j = k
        · subst e
          exact ⟨v, Nat.le_refl _, ev⟩
        · obtain ⟨u, hu, eu⟩ := h3 j (by omega) e4
          exact ⟨u, by omega, eu⟩
      · rw [if_neg (nI_ge (a := v) (b := m) (by omega) (by omega))]
        refine ⟨m, h1, rfl, fun j hj e4 => ?_, ?_⟩
        · by_cases e : j = k
          · subst e
            exact ⟨v, by omega, ev⟩
          · exact h3 j (by omega) e4
        · rcases h4 with ⟨r, -⟩ | ⟨r, i, hi, s⟩
          · omega
          · exact Or.inr ⟨r, i, by omega, s⟩
    · rw [if_neg c4]
      refine ⟨m, h1, h2, fun j hj e4 => ?_, ?_⟩
      · by_cases e : j = k
        · subst e; exact absurd e4 c4
        · exact h3 j (by omega) e4
      · rcases h4 with ⟨r, s⟩ | ⟨r, i, hi, s⟩
        · refine Or.inl ⟨r, fun j hj => ?_⟩
          by_cases e : j = k
          · subst e; exact c4
          · exact s j (by omega)
        · exact Or.inr ⟨r, i, by omega, s⟩
/-! one hour of the kiln -/
theorem zHLs_at {v : Nat} (hv : v < 9) : ∀ m, j < m → ofz (zHLs z m).2 j v = ofz (zHL (zHLs z j).2 j).2 j v
  | 0, h => absurd h (Nat.not_lt_zero _)
  | m + 1, h => by
    by_cases e : j = m
    · subst e
      rfl
    · rw [← zHLs_at hv m (by omega)]
      exact zHL_ne e hv
theorem kiln_wet (h1 : z 1 = 1) (hj : j < n) (h4 : ofz z j 0 = 4) : ofz (zHLs (zT z) n).2 j 0 = 4 ∧ ofz (zHLs (zT z) n).2 j 4 = imst 3 (ofz z j 4 - zkh z (z 2 + 1) / 20) := by
  have hz : ∀ v, v < 9 → ofz (zHLs (zT z) j).2 j v = ofz z j v := fun v hv => (zHLs_ge hv j (Nat.le_refl _)).trans ofz_T
  have hs : ∀ i, 1 ≤ i → i < 5 → (zHLs (zT z) j).2 i = z i := fun i h1 h2 => (zHLs_sc (by omega) (by omega) (by omega) (by omega) j).trans (zT_sc (by omega) (by omega))
  have hk : zkh (zHLs (zT z) j).2 ((zHLs (zT z) j).2 2 + 1) = zkh z (z 2 + 1) := by
    unfold zkh
    rw [hs 2 (by decide) (by decide), hs 3 (by decide) (by decide), hs 4 (by decide) (by decide)]
  rw [zHLs_at (by decide) n hj, zHLs_at (by decide) n hj]
  unfold zHL
  rw [hz 0 (by decide), h4, if_neg (by decide), if_neg (by decide), if_pos ⟨rfl, by rw [hs 1 (by decide) (by decide)]; exact h1⟩, hk]
  dsimp only
  rw [ofz_same (by decide), ofz_same (by decide)]
  constructor
  · have e : ∀ f x, dryF f x 0 = f 0 := fun f x => by simp [dryF, upd]
    rw [e, hz 0 (by decide), h4]
  · have e : ∀ f x, dryF f x 4 = imst 3 (f 4 - x / 20) := fun f x => by simp [dryF, upd]
    rw [e, hz 4 (by decide)]
theorem not_kiln (h4 : ofz z j 0 ≠ 4) : ofz (zHLs (zT z) n).2 j 0 ≠ 4 := by
  have a : PE (ofz z j) (ofz (zHLs (zT z) n).2 j) := PE.trans (PE.lot (e := ofz z j) (fun w _ => ofz_T) (PE.refl rfl rfl rfl)) (zHLs_pe n)
  rcases a.1 with ⟨r, -⟩ | ⟨-, r⟩ | ⟨r, -⟩
  · rw [r]; exact h4
  · rw [r]; decide
  · exact absurd r h4
theorem dryV_all : ∀ k, dryV z 1 k = 1 ↔ ∀ j, j < k → ofz z j 0 = 4 → ofz z j 4 ≤ 4
  | 0 => ⟨fun _ j hj => absurd hj (Nat.not_lt_zero _), fun _ => rfl⟩
  | k + 1 => by
    have ih := dryV_all k
    have step : (∀ j, j < k + 1 → ofz z j 0 = 4 → ofz z j 4 ≤ 4) ↔ (∀ j, j < k → ofz z j 0 = 4 → ofz z j 4 ≤ 4) ∧ (ofz z k 0 = 4 → ofz z k 4 ≤ 4) := by
      constructor
      · exact fun h => ⟨fun j hj => h j (by omega), h k (by omega)⟩
      · rintro ⟨h1, h2⟩ j hj
        by_cases e : j = k
        · subst e; exact h2
        · exact h1 j (by omega)
    rw [step, ← ih, dryV]
    rcases dryV_or (z := z) (v := 1) (Or.inr rfl) k with r | r
    · rw [r, if_pos rfl]
      exact ⟨fun q => absurd q (by decide), fun q => absurd q.1 (by decide)⟩
    · rw [r, if_neg (by decide)]
      by_cases c4 : ofz z k 0 = 4
      · rw [if_pos c4]
        by_cases cw : 4 < ofz z k 4
        · rw [if_pos cw]
          exact ⟨fun q => absurd q (by decide), fun q => absurd (q.2 c4) (Int32.not_le.mpr cw)⟩
        · rw [if_neg cw]
          exact ⟨fun _ => ⟨rfl, fun _ => Int32.not_lt.mp cw⟩, fun _ => rfl⟩
      · rw [if_neg c4]
        exact ⟨fun _ => ⟨rfl, fun q => absurd q c4⟩, fun _ => rfl⟩
theorem zMs_at : ∀ m, j < m → ofz (zMs z m) j 0 = if ofz z j 0 = 4 then 5 else ofz z j 0
  | 0, h => absurd h (Nat.not_lt_zero _)
  | m + 1, h => by
    rw [zMs]
    by_cases e : j = m
    · subst e
      have hg : ofz (zMs z j) j 0 = ofz z j 0 := zMs_ge (by decide) j (Nat.le_refl _)
      unfold zM1
      by_cases c : ofz z j 0 = 4
      · rw [if_pos (hg.trans c), if_pos c]
        unfold zMalt
        rw [ofz_books, ofz_same (by decide), pk_us]
      · rw [if_neg (fun q => c (hg.symm.trans q)), if_neg c]
        exact hg
    · have ih := zMs_at m (by omega)
      rw [← ih]
      unfold zM1
      split
      · unfold zMalt
        rw [ofz_books, ofz_ne e (by decide), ofz_sc (by decide), ofz_sc (by decide)]
      · rfl
/-- the kiln's state while it's played -/
def DK (z0 z : Zz) (n t k w : Nat) : Prop := (∀ j, j < n → (ofz z j 0 = 4 ↔ ofz z0 j 0 = 4)) ∧ z 1 = 1 ∧ z 2 = nI (t + k) ∧ z 3 = z0 3 ∧ z 4 = z0 4 ∧ WD z n w ∧ 3 ≤ w ∧ w ≤ 48
theorem DK.hour {z0 : Zz} {t lo hi : Nat} (h12 : n ≤ 12) (ht : t + k + 2 < 2 ^ 31) (h3 : z0 3 = nI lo) (h4 : z0 4 = nI hi) (hlo : 30 ≤ lo ∧ lo ≤ 60) (hhi : 60 ≤ hi ∧ hi ≤ 99) (h : DK z0 z n t k w) : (max 3 (w - (if t + (k + 1) ≤ 10 then lo / 20 else hi / 20)) ≤ 4 → ∀ j, j < n → ofz z0 j 0 = 4 → ofz (zHour z n).2 j 0 = 5) ∧ (¬ max 3 (w - (if t + (k + 1) ≤ 10 then lo / 20 else hi / 20)) ≤ 4 → DK z0 (zHour z n).2 n t (k + 1) (max 3 (w - (if t + (k + 1) ≤ 10 then lo / 20 else hi / 20)))) := by
  obtain ⟨d0, d1, d2, d3, d4, ⟨⟨jm, hjm, m1, m2⟩, dW⟩, w3, w48⟩ := h
  have hkh : ∃ g, 30 ≤ g ∧ g < 100 ∧ zkh z (z 2 + 1) = nI g ∧ g / 20 = if t + (k + 1) ≤ 10 then lo / 20 else hi / 20 := by
    unfold zkh
    rw [d2, ← nI_succ, d3, d4, h3, h4]
    by_cases cc : t + (k + 1) ≤ 10
    · rw [if_pos (show nI (t + k + 1) ≤ (10 : Int32) from nI_le (a := t + k + 1) (b := 10) cc (by decide)), if_pos cc]
      exact ⟨lo, by omega, by omega, rfl, rfl⟩
    · rw [if_neg (show ¬ nI (t + k + 1) ≤ (10 : Int32) from nI_ge (a := 10) (b := t + k + 1) (by omega) (by omega)), if_neg cc]
      exact ⟨hi, by omega, by omega, rfl, rfl⟩
  obtain ⟨g, g1, g2, g3, g4⟩ := hkh
  rw [← g4]
  have lots : ∀ j, j < n → ofz z j 0 = 4 → ofz (zHLs (zT z) n).2 j 0 = 4 ∧ ∃ v, v ≤ w ∧ ofz z j 4 = nI v ∧ ofz (zHLs (zT z) n).2 j 4 = nI (max 3 (v - g / 20)) := by
    intro j hj e4
    obtain ⟨a1, a2⟩ := kiln_wet d1 hj e4
    obtain ⟨v, hv, ev⟩ := dW j hj e4
    refine ⟨a1, v, hv, ev, ?_⟩
    rw [a2, ev, g3, step_tab v (by omega) g g2 g1]
  have sc : ∀ i, 1 ≤ i → i < 5 → (zHLs (zT z) n).2 i = z i := fun i h1 h2 => (zHLs_sc (by omega) (by omega) (by omega) (by omega) n).trans (zT_sc (by omega) (by omega))
  have nk : ∀ j, ofz z j 0 ≠ 4 → ofz (zHLs (zT z) n).2 j 0 ≠ 4 := fun j => not_kiln
  unfold zHour
  rw [if_pos d1]
  dsimp only
  revert lots sc nk
  generalize (zHLs (zT z) n).2 = r
  intro lots sc nk
  have hx0 : ∀ j v, ofz (upd r 2 (z 2 + 1)) j v = ofz r j v := fun j v => ofz_sc (by decide)
  have hxs : ∀ i, i ≠ 2 → upd r 2 (z 2 + 1) i = r i := fun i hi => pk_un hi
  have hx2 : upd r 2 (z 2 + 1) 2 = nI (t + (k + 1)) := by
    rw [pk_us, d2, ← nI_succ]
    rfl
  have hx1 : upd r 2 (z 2 + 1) 1 = 1 := by rw [hxs 1 (by decide), sc 1 (by decide) (by decide), d1]
  have hcnt : ¬ zcnt (upd r 2 (z 2 + 1)) n 4 ≤ 0 := cnt_litk ⟨jm, hjm, (hx0 jm 0).trans (lots jm hjm m1).1⟩ h12
  have hmax : ∀ j, j < n → ofz r j 0 = 4 → ∃ v, v ≤ max 3 (w - g / 20) ∧ ofz r j 4 = nI v := by
    intro j hj e4
    by_cases c : ofz z j 0 = 4
    · obtain ⟨-, v, hv, -, ev⟩ := lots j hj c
      exact ⟨_, by omega, ev⟩
    · exact absurd e4 (nk j c)
  have hwm : ofz r jm 0 = 4 ∧ ofz r jm 4 = nI (max 3 (w - g / 20)) := by
    obtain ⟨a1, v, hv, ev, ew⟩ := lots jm hjm m1
    rw [m2] at ev
    rw [← (nI_eq (a := w) (b := v) (by omega) (by omega)).1 ev] at ew
    exact ⟨a1, ew⟩
  have hdry : dryV (upd r 2 (z 2 + 1)) 1 n = 1 ↔ max 3 (w - g / 20) ≤ 4 := by
    rw [dryV_all]
    constructor
    · intro h
      have := h jm hjm ((hx0 jm 0).trans hwm.1)
      rw [hx0, hwm.2] at this
      exact (nI_leI (a := max 3 (w - g / 20)) (b := 4) (by omega) (by decide)).1 this
    · intro h j hj e4
      rw [hx0] at e4 ⊢
      obtain ⟨v, hv, ev⟩ := hmax j hj e4
      rw [ev]
      exact nI_le (a := v) (b := 4) (by omega) (by decide)
  unfold zEnd zMm zmv
  dsimp only
  rcases dry_zmn (z := upd r 2 (z 2 + 1)) n with ⟨e1, e2⟩ | ⟨e1, e2⟩
  · rw [e2, if_neg hcnt, if_neg hcnt, if_neg hcnt]
    refine ⟨fun _ j hj e4 => ?_, fun c => absurd (hdry.1 e1) c⟩
    rw [ofz_sc (by decide), ofz_sc (by decide), zMs_at n hj, hx0, if_pos (lots j hj ((d0 j hj).2 e4)).1]
  · rw [e2, if_pos (by decide), if_pos (by decide), if_pos (by decide)]
    refine ⟨fun c => ?_, fun c => ⟨fun j hj => ?_, ?_, ?_, ?_, ?_, ⟨⟨jm, hjm, ?_, ?_⟩, fun j hj e4 => ?_⟩, by omega, by omega⟩⟩
    · rw [hdry.2 c] at e1
      exact absurd e1 (by decide)
    · rw [ofz_sc (by decide), ofz_sc (by decide), hx0, ← d0 j hj]
      exact ⟨fun q => Classical.byContradiction fun q2 => nk j q2 q, fun q => (lots j hj q).1⟩
    · rw [pk_un (by decide), pk_us]
    · rw [pk_us]; exact hx2
    · rw [pk_un (by decide), pk_un (by decide), hxs 3 (by decide), sc 3 (by decide) (by decide), d3]
    · rw [pk_un (by decide), pk_un (by decide), hxs 4 (by decide), sc 4 (by decide) (by decide), d4]
    · rw [ofz_sc (by decide), ofz_sc (by decide), hx0]; exact hwm.1
    · rw [ofz_sc (by decide), ofz_sc (by decide), hx0]; exact hwm.2
    · rw [ofz_sc (by decide), ofz_sc (by decide), hx0] at e4 ⊢
      exact hmax j hj e4
end DY
