/-! hours: plain laws -/
theorem held_bd {v : Int32} {a : Nat} (ha : a < 2 ^ 31) : ∃ k, k ≤ a ∧ sp_held v (nI 0) (nI a) = nI k := by
  unfold sp_held
  split
  · exact ⟨0, Nat.zero_le _, rfl⟩
  · next h1 =>
    split
    · exact ⟨a, Nat.le_refl _, rfl⟩
    · next h2 => exact in_nI ⟨Int32.not_lt.mp h1, Int32.not_lt.mp h2⟩ ha
theorem held_in {k a : Nat} (h : k ≤ a) (ha : a < 2 ^ 31) : sp_held (nI k) (nI 0) (nI a) = nI k := by
  unfold sp_held
  rw [if_neg (nI_nlt (Nat.zero_le k) (by omega)), if_neg (nI_nlt h ha)]
theorem wants_bd {S : Sta} {w a : Nat} (ha : a < 2 ^ 31) : ∃ k, k ≤ a ∧ sp_wants S w (nI a) = nI k := by
  unfold sp_wants
  split
  · exact ⟨0, Nat.zero_le _, rfl⟩
  · split
    · exact held_bd ha
    · exact ⟨0, Nat.zero_le _, rfl⟩
theorem fl_in_ag (S : Sta) (p : Nat) : ∀ (n w : Nat) (a t : Int32) (u v : Nat → Int32) (A : Nat → Prop), (∀ j, A j → u j = v j) →
    (fl_in S p n w (a, t, u)).1 = (fl_in S p n w (a, t, v)).1 ∧ (fl_in S p n w (a, t, u)).2.1 = (fl_in S p n w (a, t, v)).2.1 ∧ ∀ j, (A j ∨ (w ≤ j ∧ j < w + n ∧ S 7 j = nI p)) → (fl_in S p n w (a, t, u)).2.2 j = (fl_in S p n w (a, t, v)).2.2 j := by
  intro n
  induction n with
  | zero =>
    intro w a t u v A h
    refine ⟨rfl, rfl, fun j hj => ?_⟩
    rcases hj with hj | hj
    · exact h j hj
    · omega
  | succ n ih =>
    intro w a t u v A h
    by_cases c : S 7 w = nI p
    · simp only [fl_in, if_pos c]
      obtain ⟨h1, h2, h3⟩ := ih (w + 1) (a - sp_wants S w a) (t + sp_wants S w a) (upd u w (sp_wants S w a)) (upd v w (sp_wants S w a)) (fun j => A j ∨ j = w) (by
        intro j hj
        by_cases e : j = w
        · rw [e, pk_us, pk_us]
        · rw [pk_un e, pk_un e]
          rcases hj with hj | hj
          · exact h j hj
          · exact absurd hj e)
      refine ⟨h1, h2, fun j hj => h3 j ?_⟩
      rcases hj with hj | ⟨hj1, hj2, hj3⟩
      · exact Or.inl (Or.inl hj)
      · rcases Nat.eq_or_lt_of_le hj1 with e | e
        · exact Or.inl (Or.inr e.symm)
        · exact Or.inr ⟨e, by omega, hj3⟩
    · simp only [fl_in, if_neg c]
      obtain ⟨h1, h2, h3⟩ := ih (w + 1) a t u v A h
      refine ⟨h1, h2, fun j hj => h3 j ?_⟩
      rcases hj with hj | ⟨hj1, hj2, hj3⟩
      · exact Or.inl hj
      · rcases Nat.eq_or_lt_of_le hj1 with e | e
        · rw [← e] at hj3
          exact absurd hj3 c
        · exact Or.inr ⟨e, by omega, hj3⟩
theorem fl_out_ag (S : Sta) : ∀ (n p : Nat) (a lo t : Int32) (u v f g : Nat → Int32), (∀ j, j < wh S → (∃ q, q < p ∧ S 7 j = nI q) → u j = v j) → (∀ j, j < p → f j = g j) →
    (fl_out S n p (a, lo, t, u, f)).1 = (fl_out S n p (a, lo, t, v, g)).1 ∧ (fl_out S n p (a, lo, t, u, f)).2.1 = (fl_out S n p (a, lo, t, v, g)).2.1 ∧ (fl_out S n p (a, lo, t, u, f)).2.2.1 = (fl_out S n p (a, lo, t, v, g)).2.2.1 ∧
    (∀ j, j < wh S → (∃ q, q < p + n ∧ S 7 j = nI q) → (fl_out S n p (a, lo, t, u, f)).2.2.2.1 j = (fl_out S n p (a, lo, t, v, g)).2.2.2.1 j) ∧ (∀ j, j < p + n → (fl_out S n p (a, lo, t, u, f)).2.2.2.2 j = (fl_out S n p (a, lo, t, v, g)).2.2.2.2 j) := by
  intro n
  induction n with
  | zero =>
    intro p a lo t u v f g h hf
    exact ⟨rfl, rfl, rfl, h, hf⟩
  | succ n ih =>
    intro p a lo t u v f g h hf
    obtain ⟨h1, h2, h3⟩ := fl_in_ag S p (wh S) 0 (a - fl_wd S p a) t u v (fun j => j < wh S ∧ ∃ q, q < p ∧ S 7 j = nI q) (fun j hj => h j hj.1 hj.2)
    simp only [fl_out]
    rw [h1, h2]
    obtain ⟨g1, g2, g3, g4, g5⟩ := ih (p + 1) (fl_in S p (wh S) 0 (a - fl_wd S p a, t, v)).1 (lo + fl_wd S p a) (fl_in S p (wh S) 0 (a - fl_wd S p a, t, v)).2.1 (fl_in S p (wh S) 0 (a - fl_wd S p a, t, u)).2.2 (fl_in S p (wh S) 0 (a - fl_wd S p a, t, v)).2.2 (upd f p a) (upd g p a) (by
      intro j hj hq
      obtain ⟨q, hq1, hq2⟩ := hq
      refine h3 j ?_
      rcases Nat.lt_or_ge q p with e | e
      · exact Or.inl ⟨hj, q, e, hq2⟩
      · have e2 : q = p := by omega
        rw [e2] at hq2
        exact Or.inr ⟨Nat.zero_le _, by omega, hq2⟩) (by
      intro j hj
      by_cases e : j = p
      · rw [e, pk_us, pk_us]
      · rw [pk_un e, pk_un e]
        exact hf j (by omega))
    refine ⟨g1, g2, g3, fun j hj hq => g4 j hj ?_, fun j hj => g5 j (by omega)⟩
    obtain ⟨q, hq1, hq2⟩ := hq
    exact ⟨q, by omega, hq2⟩
def sp_fl (S : Sta) : Int32 × Int32 × Int32 × (Nat → Int32) × (Nat → Int32) := sp_flow S (fun _ => 0) (fun _ => 0)
def sp_took (S : Sta) : Nat → Int32 := (sp_fl S).2.2.2.1
theorem flow_ag {S : Sta} (hI : Inv S) (tk fw : Nat → Int32) : (sp_flow S tk fw).1 = (sp_fl S).1 ∧ (sp_flow S tk fw).2.1 = (sp_fl S).2.1 ∧ (sp_flow S tk fw).2.2.1 = (sp_fl S).2.2.1 ∧ (∀ j, j < wh S → (sp_flow S tk fw).2.2.2.1 j = sp_took S j) ∧ (∀ j, j < 12 → (sp_flow S tk fw).2.2.2.2 j = (sp_fl S).2.2.2.2 j) := by
  obtain ⟨h1, h2, h3, h4, h5⟩ := fl_out_ag S 12 0 (S 1 (cn (hod S))) (nI 0) (nI 0) tk (fun _ => 0) fw (fun _ => 0) (fun j _ hq => by obtain ⟨q, hq, _⟩ := hq; omega) (fun j hj => by omega)
  obtain ⟨-, h8⟩ := inv_wh hI
  refine ⟨h1, h2, h3, fun j hj => h4 j hj ?_, h5⟩
  obtain ⟨k, hk, e⟩ := inv_bd hI 7 j (by show j < 8; omega)
  have hk : k ≤ 11 := hk
  exact ⟨k, by omega, e⟩
/-- what is left, and what is taken, stays small -/
theorem fl_in_bd (S : Sta) (p : Nat) : ∀ (n w a : Nat) (t : Int32) (u : Nat → Int32), a ≤ 99 → (∃ k, k ≤ a ∧ (fl_in S p n w (nI a, t, u)).1 = nI k) ∧ ∀ j, (Bd (u j) 99 ∨ (w ≤ j ∧ j < w + n ∧ S 7 j = nI p)) → Bd ((fl_in S p n w (nI a, t, u)).2.2 j) 99 := by
  intro n
  induction n with
  | zero =>
    intro w a t u ha
    refine ⟨⟨a, Nat.le_refl _, rfl⟩, fun j hj => ?_⟩
    rcases hj with hj | hj
    · exact hj
    · omega
  | succ n ih =>
    intro w a t u ha
    by_cases c : S 7 w = nI p
    · simp only [fl_in, if_pos c]
      obtain ⟨k, hk, ek⟩ := wants_bd (S := S) (w := w) (a := a) (by omega)
      rw [ek, pk_sub hk]
      obtain ⟨⟨k2, hk2, e2⟩, h2⟩ := ih (w + 1) (a - k) (t + nI k) (upd u w (nI k)) (by omega)
      refine ⟨⟨k2, by omega, e2⟩, fun j hj => h2 j ?_⟩
      by_cases e : j = w
      · exact Or.inl ⟨k, by omega, by rw [e, pk_us]⟩
      · rw [pk_un e]
        rcases hj with hj | ⟨hj1, hj2, hj3⟩
        · exact Or.inl hj
        · exact Or.inr ⟨by omega, by omega, hj3⟩
    · simp only [fl_in, if_neg c]
      obtain ⟨h1, h2⟩ := ih (w + 1) a t u ha
      refine ⟨h1, fun j hj => h2 j ?_⟩
      rcases hj with hj | ⟨hj1, hj2, hj3⟩
      · exact Or.inl hj
      · rcases Nat.eq_or_lt_of_le hj1 with e | e
        · rw [← e] at hj3
          exact absurd hj3 c
        · exact Or.inr ⟨e, by omega, hj3⟩
theorem fl_wd_bd {S : Sta} (hI : Inv S) {p a : Nat} (hp : p < 12) (ha : a ≤ 99) : ∃ k, k ≤ a ∧ fl_wd S p (nI a) = nI k := by
  obtain ⟨q, hq, e⟩ := inv_bd hI 2 p hp
  have hq : q ≤ 9 := hq
  unfold fl_wd
  rw [e]
  split
  · exact ⟨a, Nat.le_refl _, rfl⟩
  · next h =>
    refine ⟨q, ?_, rfl⟩
    rcases Nat.lt_or_ge a q with z | z
    · exact absurd (nI_le (Nat.le_of_lt z) (by omega)) h
    · exact z
theorem fl_out_bd {S : Sta} (hI : Inv S) : ∀ (n p a : Nat) (lo t : Int32) (u f : Nat → Int32), p + n = 12 → a ≤ 99 → (∀ j, j < wh S → (∃ q, q < p ∧ S 7 j = nI q) → Bd (u j) 99) → (∀ j, j < p → Bd (f j) 99) →
    Bd (fl_out S n p (nI a, lo, t, u, f)).1 99 ∧ (∀ j, j < wh S → (∃ q, q < 12 ∧ S 7 j = nI q) → Bd ((fl_out S n p (nI a, lo, t, u, f)).2.2.2.1 j) 99) ∧ ∀ j, j < 12 → Bd ((fl_out S n p (nI a, lo, t, u, f)).2.2.2.2 j) 99 := by
  intro n
  induction n with
  | zero =>
    intro p a lo t u f hp ha hu hf
    have e : p = 12 := by omega
    subst e
    exact ⟨⟨a, ha, rfl⟩, hu, hf⟩
  | succ n ih =>
    intro p a lo t u f hp ha hu hf
    obtain ⟨k, hk, ek⟩ := fl_wd_bd hI (p := p) (a := a) (by omega) ha
    simp only [fl_out]
    rw [ek, pk_sub hk]
    obtain ⟨⟨k2, hk2, e2⟩, h2⟩ := fl_in_bd S p (wh S) 0 (a - k) t u (by omega)
    rw [e2]
    refine ih (p + 1) k2 (lo + nI k) _ _ _ (by omega) (by omega) (fun j hj hq => h2 j ?_) (fun j hj => ?_)
    · obtain ⟨q, hq1, hq2⟩ := hq
      rcases Nat.lt_or_ge q p with e | e
      · exact Or.inl (hu j hj ⟨q, e, hq2⟩)
      · have e2 : q = p := by omega
        rw [e2] at hq2
        exact Or.inr ⟨Nat.zero_le _, by omega, hq2⟩
    · by_cases e : j = p
      · exact ⟨a, ha, by rw [e, pk_us]⟩
      · rw [pk_un e]
        exact hf j (by omega)
theorem took_bd {S : Sta} (hI : Inv S) {j : Nat} (hj : j < wh S) : Bd (sp_took S j) 99 := by
  obtain ⟨-, h8⟩ := inv_wh hI
  obtain ⟨hh, hh24, ehh, -⟩ := inv_hod hI
  obtain ⟨a, ha, e⟩ := inv_bd hI 1 hh (by show hh < 24; omega)
  have ha : a ≤ 99 := ha
  have h := (fl_out_bd hI 12 0 a (nI 0) (nI 0) (fun _ => 0) (fun _ => 0) rfl ha (fun j _ hq => by obtain ⟨q, hq, _⟩ := hq; omega) (fun j hj => by omega)).2.1 j hj (by
    obtain ⟨k, hk, e⟩ := inv_bd hI 7 j (by show j < 8; omega)
    have hk : k ≤ 11 := hk
    exact ⟨k, by omega, e⟩)
  rw [sp_took, sp_fl, sp_flow, ehh, cn_nI (by omega), e]
  exact h
theorem flw_bd {S : Sta} (hI : Inv S) : Bd (sp_fl S).1 99 ∧ ∀ j, j < 12 → Bd ((sp_fl S).2.2.2.2 j) 99 := by
  obtain ⟨hh, hh24, ehh, -⟩ := inv_hod hI
  obtain ⟨a, ha, e⟩ := inv_bd hI 1 hh (by show hh < 24; omega)
  have ha : a ≤ 99 := ha
  have h := fl_out_bd hI 12 0 a (nI 0) (nI 0) (fun _ => 0) (fun _ => 0) rfl ha (fun j _ hq => by obtain ⟨q, hq, _⟩ := hq; omega) (fun j hj => by omega)
  rw [sp_fl, sp_flow, ehh, cn_nI (by omega), e]
  exact ⟨h.1, h.2.2⟩
theorem up2_row {S : Sta} {i j r : Nat} {v : Int32} (h : r ≠ i) : up2 S i j v r = S r := up1_n h
theorem up2_at {S : Sta} {i j : Nat} {v : Int32} : up2 S i j v i j = v := by
  rw [up2, up1_s, pk_us]
theorem up2_ne {S : Sta} {i j k : Nat} {v : Int32} (h : k ≠ j) : up2 S i j v i k = S i k := by
  rw [up2, up1_s, pk_un h]
theorem inv_up2 {S : Sta} (hI : Inv S) {i j : Nat} {v : Int32} (h1 : 1 ≤ i) (h2 : i < 12) (hv : Bd v (bd_ i)) : Inv (up2 S i j v) := by
  obtain ⟨a1, a2, a3, a4, a5, a6, a7, a8, a9⟩ := hI
  refine ⟨fun i' j' g1 g2 g3 => ?_, ?_⟩
  · by_cases e : i' = i
    · subst e
      by_cases e2 : j' = j
      · subst e2
        rw [up2_at]
        exact hv
      · rw [up2_ne e2]
        exact a1 i' j' g1 g2 g3
    · rw [up2_row e]
      exact a1 i' j' g1 g2 g3
  · rw [up2_row (r := 0) (by omega), up2_row (r := 12) (by omega), up2_row (r := 13) (by omega), up2_row (r := 14) (by omega)]
    exact ⟨a2, a3, a4, a5, a6, a7, a8, a9⟩
theorem bd_lit : (999999 : Int32) = nI 999999 := rfl
theorem held_bd6 {v : Int32} : Bd (sp_held v (nI 0) 999999) 999999 := by
  rw [bd_lit]
  exact held_bd (by decide)
/-- a wheel turns: its own sum and its family's -/
def sp_turn1 (S : Sta) (w : Nat) (u : Int32) : Sta := up2 (up2 S 11 w (sp_held (S 11 w + u) (nI 0) 999999)) 4 (cn (S 8 w)) (sp_held (S 4 (cn (S 8 w)) + u) (nI 0) 999999)
def hr1 (S : Sta) (w : Nat) (t : Int32) : Sta := up2 (sp_turn1 S w (sp_turns S w t)) 10 w (sp_held (S 10 w + sp_shB S w t (sp_turns S w t)) (nI 0) 999999)
def hrs (S : Sta) (tk : Nat → Int32) : Nat → Sta
  | 0 => S
  | w + 1 => hr1 (hrs S tk w) w (tk w)
def sp_hour (S : Sta) : Sta := up2 (hrs S (sp_took S) (wh S)) 0 1 (S 0 1 + nI 1)
def trn (S : Sta) (w : Nat) : Int32 := sp_turns (hrs S (sp_took S) w) w (sp_took S w)
theorem turn1_inv {S : Sta} (hI : Inv S) {w : Nat} {u : Int32} : Inv (sp_turn1 S w u) := inv_up2 (inv_up2 hI (by decide) (by decide) held_bd6) (by decide) (by decide) held_bd6
theorem hr1_inv {S : Sta} (hI : Inv S) {w : Nat} {t : Int32} : Inv (hr1 S w t) := inv_up2 (turn1_inv hI) (by decide) (by decide) held_bd6
theorem hrs_inv {S : Sta} (hI : Inv S) (tk : Nat → Int32) : ∀ n, Inv (hrs S tk n)
  | 0 => hI
  | n + 1 => hr1_inv (hrs_inv hI tk n)
theorem turn1_row {S : Sta} {w r : Nat} {u : Int32} (h : r ≠ 4) (h2 : r ≠ 11) : sp_turn1 S w u r = S r := by
  unfold sp_turn1
  rw [up2_row h, up2_row h2]
theorem hr1_row {S : Sta} {w r : Nat} {t : Int32} (h : r ≠ 4) (h2 : r ≠ 10) (h3 : r ≠ 11) : hr1 S w t r = S r := by
  unfold hr1
  rw [up2_row h2, turn1_row h h3]
theorem hrs_row {S : Sta} {tk : Nat → Int32} {r : Nat} (h : r ≠ 4) (h2 : r ≠ 10) (h3 : r ≠ 11) : ∀ n, hrs S tk n r = S r
  | 0 => rfl
  | n + 1 => by rw [hrs, hr1_row h h2 h3, hrs_row h h2 h3 n]
theorem hrs_wh {S : Sta} {tk : Nat → Int32} (n : Nat) : wh (hrs S tk n) = wh S := by
  unfold wh
  rw [hrs_row (by decide) (by decide) (by decide)]
def hrv (S : Sta) : Nat := cn (S 0 1)
theorem inv_hr {S : Sta} (hI : Inv S) : S 0 1 = nI (hrv S) ∧ hrv S ≤ 20000 := by
  obtain ⟨k, hk, e⟩ := hI.2.2.1
  have e2 : hrv S = k := by
    unfold hrv
    rw [e, cn_nI (by omega)]
  rw [e2]
  exact ⟨e, hk⟩
theorem inv_up0 {S : Sta} (hI : Inv S) {v : Int32} (hv : Bd v 20000) : Inv (up2 S 0 1 v) := by
  obtain ⟨a1, a2, a3, a4, a5, a6, a7, a8, a9⟩ := hI
  refine ⟨fun i j h1 h2 h3 => by rw [up2_row (by omega)]; exact a1 i j h1 h2 h3, ?_⟩
  rw [up2_ne (by decide : (0 : Nat) ≠ 1), up2_at, up2_ne (by decide : (2 : Nat) ≠ 1), up2_ne (by decide : (3 : Nat) ≠ 1), up2_ne (by decide : (4 : Nat) ≠ 1), up2_row (by decide : (12 : Nat) ≠ 0), up2_row (by decide : (13 : Nat) ≠ 0), up2_row (by decide : (14 : Nat) ≠ 0)]
  exact ⟨a2, hv, a4, a5, a6, a7, a8, a9⟩
theorem hour_inv {S : Sta} (hI : Inv S) (h : hrv S < 20000) : Inv (sp_hour S) ∧ hrv (sp_hour S) = hrv S + 1 ∧ wh (sp_hour S) = wh S := by
  obtain ⟨e, -⟩ := inv_hr hI
  have e2 : S 0 1 + nI 1 = nI (hrv S + 1) := by rw [e, nI_add]
  refine ⟨?_, ?_, ?_⟩
  · unfold sp_hour
    rw [e2]
    exact inv_up0 (hrs_inv hI _ _) ⟨_, by omega, rfl⟩
  · show cn (sp_hour S 0 1) = _
    unfold sp_hour
    rw [up2_at, e2, cn_nI (by omega)]
  · show cn (sp_hour S 0 0) = _
    unfold sp_hour
    rw [up2_ne (by decide : (0 : Nat) ≠ 1), hrs_row (by decide) (by decide) (by decide)]
    rfl
def hrN (S : Sta) : Nat → Sta
  | 0 => S
  | n + 1 => sp_hour (hrN S n)
theorem hrN_inv {S : Sta} (hI : Inv S) : ∀ n, hrv S + n ≤ 20000 → Inv (hrN S n) ∧ hrv (hrN S n) = hrv S + n ∧ wh (hrN S n) = wh S
  | 0, _ => ⟨hI, rfl, rfl⟩
  | n + 1, h => by
    obtain ⟨h1, h2, h3⟩ := hrN_inv hI n (by omega)
    obtain ⟨g1, g2, g3⟩ := hour_inv h1 (by omega)
    exact ⟨g1, by rw [hrN, g2, h2]; omega, by rw [hrN, g3, h3]⟩
