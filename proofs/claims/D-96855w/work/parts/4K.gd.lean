/-! force goes down, hours: what the class leaves; sums of what is taken -/
def Kh (L : List Nat) (a : Nat) (U V : Tta) : Prop := (∀ x, x ≠ 3 → x ≠ a → V x = U x) ∧ ∀ q, q ∉ L → V 3 q = U 3 q
theorem Kh.rf {L : List Nat} {a : Nat} {U : Tta} : Kh L a U U := ⟨fun _ _ _ => rfl, fun _ _ => rfl⟩
theorem Kh.tr {L : List Nat} {a : Nat} {U V X : Tta} (h : Kh L a U V) (h2 : Kh L a V X) : Kh L a U X := ⟨fun x hx hy => (h2.1 x hx hy).trans (h.1 x hx hy), fun q hq => (h2.2 q hq).trans (h.2 q hq)⟩
theorem Kh.mono {L M : List Nat} {a : Nat} {U V : Tta} (h : Kh L a U V) (hm : ∀ i ∈ L, i ∈ M) : Kh M a U V := ⟨h.1, fun q hq => h.2 q (fun z => hq (hm q z))⟩
theorem Kq.h {L M : List Nat} {a : Nat} {U V : Tta} (h : Kq L U V) (hm : ∀ i ∈ L, i ∈ M) : Kh M a U V := ⟨fun x hx _ => h.1 x hx, fun q hq => h.2 q (fun z => hq (hm q z))⟩
theorem Kh.up {L : List Nat} {a : Nat} {U V : Tta} {k : Nat} {f : Nat → Int32} (h : Kh L a U V) (hk : k ∈ L) : Kh L a U (up3 V 3 k f) := by
  refine ⟨fun x hx hy => by rw [up3_n hx, h.1 x hx hy], fun q hq => ?_⟩
  have e : q ≠ k := fun z => hq (by rw [z]; exact hk)
  rw [up3_s, up1_n e, h.2 q hq]
theorem Kh.S {L : List Nat} {a : Nat} {U V : Tta} {S : Sta} (h : Kh L a U V) (ha : a ≠ 3) : Kh L a U (uS V a S) := ⟨fun x hx hy => by rw [uS_n hy, h.1 x hx hy], fun q hq => by rw [uS_n (Ne.symm ha), h.2 q hq]⟩
theorem Kh.CT {L : List Nat} {U V T : Tta} {r : Nat × Nat} {S : Sta} (h : Kh L r.1 U V) (hT : CT U r T) (hL : ∀ q, q < 4 → q ∉ L) (hS : V r.1 = S) : CT V r (tS T S) := by
  have h1 := hT.1.1
  refine ⟨hT.1, hS, by rw [h.1 _ (by decide) (by omega)]; exact hT.2.2.1, fun q j hq hj => ?_⟩
  rw [h.2 q (hL q hq)]
  exact hT.2.2.2 q j hq hj
/-- what goDown leaves -/
def GD (U V : Tta) (a : Nat) : Prop := Kq [4, 5, 6, 7, 9, 10] U V ∧ V 3 6 = (sp_flow (U a) (U 3 6) (U 3 7)).2.2.2.1 ∧ V 3 7 = (sp_flow (U a) (U 3 6) (U 3 7)).2.2.2.2 ∧ V 3 9 0 = (sp_flow (U a) (U 3 6) (U 3 7)).1 ∧ V 3 10 0 = (sp_flow (U a) (U 3 6) (U 3 7)).2.1
theorem mn_wd {w l : Int32} : (if w < l then w else l) = if l ≤ w then l else w := by
  by_cases h : w < l
  · rw [if_pos h, if_neg (Int32.not_le.mpr h)]
  · rw [if_neg h, if_pos (Int32.not_lt.mp h)]
theorem bd_subk {a k : Nat} (h : k ≤ a) (ha : a ≤ 99) : Bd (nI a - nI k) 99 := ⟨a - k, by omega, pk_sub h⟩
theorem wants_sb {S : Sta} {w : Nat} {x : Int32} (h : Bd x 99) : Bd (x - sp_wants S w x) 99 := by
  obtain ⟨a, ha, rfl⟩ := h
  obtain ⟨k, hk, e⟩ := wants_bd (S := S) (w := w) (a := a) (by omega)
  rw [e]
  exact bd_subk hk ha
theorem wd_sb {S : Sta} (hI : Inv S) {p : Nat} {x : Int32} (hp : p < 12) (h : Bd x 99) : Bd (x - fl_wd S p x) 99 := by
  obtain ⟨a, ha, rfl⟩ := h
  obtain ⟨k, hk, e⟩ := fl_wd_bd hI hp ha
  rw [e]
  exact bd_subk hk ha
theorem shows_bd {S : Sta} {w : Nat} {t : Int32} (h : Bd t 99) : Bd (sp_shows S w t) 9999 := by
  obtain ⟨a, ha, rfl⟩ := h
  obtain ⟨u, hu, eu⟩ := held_bd (v := sp_turn0 S w (nI a)) (a := 9999) (by decide)
  have eu2 : sp_turns S w (nI a) = nI u := eu
  rw [sp_shows, eu2, sp_shB]
  split
  · exact ⟨0, by omega, rfl⟩
  · split
    · rw [nI_two]; exact ⟨_, by omega, rfl⟩
    · split
      · rw [pk_div (by omega) (by decide) (by decide)]; exact ⟨_, by omega, rfl⟩
      · exact ⟨u, hu, rfl⟩
theorem turns_bd {S : Sta} {w : Nat} {t : Int32} : Bd (sp_turns S w t) 9999 := held_bd (by decide)
/-! what is taken is the wheels' sum -/
def tsm (S : Sta) (tk : Nat → Int32) (p w : Nat) : Nat → Int32
  | 0 => nI 0
  | j + 1 => tsm S tk p w j + (if cn (S 7 j) < p ∨ (cn (S 7 j) = p ∧ j < w) then tk j else nI 0)
def sm (tk : Nat → Int32) : Nat → Int32
  | 0 => nI 0
  | j + 1 => sm tk j + tk j
theorem tsm_cg {S : Sta} {tk tk' : Nat → Int32} {p p' w w' : Nat} : ∀ N, (∀ j, j < N → ((cn (S 7 j) < p ∨ (cn (S 7 j) = p ∧ j < w)) ↔ (cn (S 7 j) < p' ∨ (cn (S 7 j) = p' ∧ j < w'))) ∧ ((cn (S 7 j) < p ∨ (cn (S 7 j) = p ∧ j < w)) → tk j = tk' j)) → tsm S tk p w N = tsm S tk' p' w' N
  | 0, _ => rfl
  | N + 1, h => by
    rw [tsm, tsm, tsm_cg N (fun j hj => h j (by omega))]
    have hN := h N (by omega)
    by_cases c : cn (S 7 N) < p ∨ (cn (S 7 N) = p ∧ N < w)
    · rw [if_pos c, if_pos (hN.1.mp c), hN.2 c]
    · rw [if_neg c, if_neg (fun z => c (hN.1.mpr z))]
theorem tsm_add {S : Sta} {tk : Nat → Int32} {p w : Nat} {v : Int32} (hp : cn (S 7 w) = p) : ∀ N, w < N → tsm S (upd tk w v) p (w + 1) N = tsm S tk p w N + v
  | 0, h => by omega
  | N + 1, h => by
    rw [tsm, tsm]
    by_cases e : N = w
    · subst e
      rw [if_pos (Or.inr ⟨hp, by omega⟩), if_neg (by omega), pk_us]
      rw [show tsm S (upd tk N v) p (N + 1) N = tsm S tk p N N from tsm_cg N (fun j hj => ⟨⟨fun z => by omega, fun z => by omega⟩, fun _ => pk_un (by omega)⟩)]
      rw [show (nI 0 : Int32) = 0 from rfl, Int32.add_zero]
    · rw [tsm_add hp N (by omega), pk_un e]
      by_cases c : cn (S 7 N) < p ∨ (cn (S 7 N) = p ∧ N < w)
      · rw [if_pos c, if_pos (by omega)]
        rw [Int32.add_assoc, Int32.add_assoc, Int32.add_comm v]
      · rw [if_neg c, if_neg (by omega)]
        rw [Int32.add_assoc, Int32.add_assoc, Int32.add_comm v]
theorem fl_in_sm {S : Sta} {p N : Nat} (hp : p < 2 ^ 31) (hN : ∀ j, j < N → S 7 j = nI (cn (S 7 j)) ∧ cn (S 7 j) < 2 ^ 31) : ∀ (n w : Nat) (x : Int32 × Int32 × (Nat → Int32)), w + n = N → x.2.1 = tsm S x.2.2 p w N → (fl_in S p n w x).2.1 = tsm S (fl_in S p n w x).2.2 p N N
  | 0, w, x, h, hx => by
    rw [fl_in, show w = N by omega] at *
    exact hx
  | n + 1, w, x, h, hx => by
    rw [fl_in]
    have hw := hN w (by omega)
    by_cases c : S 7 w = nI p
    · rw [if_pos c]
      refine fl_in_sm hp hN n (w + 1) _ (by omega) ?_
      show x.2.1 + _ = _
      rw [tsm_add (by rw [c, cn_nI hp]) N (by omega), hx]
    · rw [if_neg c]
      refine fl_in_sm hp hN n (w + 1) _ (by omega) ?_
      rw [hx]
      refine tsm_cg N (fun j hj => ⟨⟨fun z => by omega, fun z => ?_⟩, fun _ => rfl⟩)
      have : ¬ (cn (S 7 w) = p) := fun z => c (by rw [hw.1, z])
      by_cases e : j = w
      · subst e; omega
      · omega
theorem fl_out_sm {S : Sta} (hN : ∀ j, j < wh S → S 7 j = nI (cn (S 7 j)) ∧ cn (S 7 j) < 2 ^ 31) : ∀ (n p : Nat) (x : Int32 × Int32 × Int32 × (Nat → Int32) × (Nat → Int32)), p + n = 12 → x.2.2.1 = tsm S x.2.2.2.1 p 0 (wh S) → (fl_out S n p x).2.2.1 = tsm S (fl_out S n p x).2.2.2.1 12 0 (wh S)
  | 0, p, x, h, hx => by
    rw [fl_out, show p = 12 by omega] at *
    exact hx
  | n + 1, p, x, h, hx => by
    rw [fl_out]
    refine fl_out_sm hN n (p + 1) _ (by omega) ?_
    have h1 := fl_in_sm (p := p) (by omega) hN (wh S) 0 (x.1 - fl_wd S p x.1, x.2.2.1, x.2.2.2.1) (by omega) hx
    refine h1.trans (tsm_cg _ (fun j hj => ⟨⟨fun z => by omega, fun z => by omega⟩, fun _ => rfl⟩))
theorem tsm_sm {S : Sta} {tk : Nat → Int32} {p w : Nat} : ∀ N, (∀ j, j < N → cn (S 7 j) < p) → tsm S tk p w N = sm tk N
  | 0, _ => rfl
  | N + 1, h => by rw [tsm, sm, tsm_sm N (fun j hj => h j (by omega)), if_pos (Or.inl (h N (by omega)))]
theorem sm_took {S : Sta} (hI : Inv S) : sm (sp_took S) (wh S) = (sp_fl S).2.2.1 := by
  have h8 := (inv_wh hI).2
  have hp : ∀ j, j < wh S → S 7 j = nI (cn (S 7 j)) ∧ cn (S 7 j) ≤ 11 := fun j hj => by
    obtain ⟨k, hk, e⟩ := inv_bd hI 7 j (by show j < 8; omega)
    have hk2 : k ≤ 11 := hk
    rw [e, cn_nI (by omega)]
    exact ⟨rfl, hk2⟩
  have z : ∀ N, nI 0 = tsm S (fun _ => 0) 0 0 N := by
    intro N
    induction N with
    | zero => rfl
    | succ N ih =>
      rw [tsm, ← ih, if_neg (by omega)]
      rfl
  have h := fl_out_sm (S := S) (fun j hj => ⟨(hp j hj).1, by have := (hp j hj).2; omega⟩) 12 0 (S 1 (cn (hod S)), nI 0, nI 0, (fun _ => 0), (fun _ => 0)) rfl (z _)
  exact ((tsm_sm (S := S) (tk := sp_took S) (p := 12) (w := 0) (wh S) (fun j hj => by have := (hp j hj).2; omega)).symm.trans h.symm)
theorem sm_cg {f g : Nat → Int32} : ∀ N, (∀ j, j < N → f j = g j) → sm f N = sm g N
  | 0, _ => rfl
  | N + 1, h => by rw [sm, sm, sm_cg N (fun j hj => h j (by omega)), h N (by omega)]
/-- what an hour leaves; hours -/
def HL : List Nat := [4, 5, 6, 7, 8, 9, 10]
def AH (U V : Tta) (a : Nat) : Prop := Kh HL a U V ∧ V a = sp_hour (U a) ∧ (∀ j, j < wh (U a) → V 3 8 j = U 3 8 j + trn (U a) j) ∧ ∀ j, wh (U a) ≤ j → V 3 8 j = U 3 8 j
def smN (S : Sta) (j : Nat) : Nat → Int32
  | 0 => nI 0
  | m + 1 => smN S j m + trn (hrN S m) j
def GO (U V : Tta) (a m : Nat) : Prop := Kh HL a U V ∧ V a = hrN (U a) m ∧ (∀ j, j < wh (U a) → V 3 8 j = U 3 8 j + smN (U a) j m) ∧ ∀ j, wh (U a) ≤ j → V 3 8 j = U 3 8 j
theorem GO.rf {U : Tta} {a : Nat} : GO U U a 0 := ⟨Kh.rf, rfl, fun j _ => by rw [smN, show (nI 0 : Int32) = 0 from rfl, Int32.add_zero], fun _ _ => rfl⟩
theorem GO.st {U V X : Tta} {a m : Nat} (h : GO U V a m) (hw : wh (V a) = wh (U a)) (h2 : AH V X a) : GO U X a (m + 1) := by
  refine ⟨h.1.tr h2.1, by rw [h2.2.1, h.2.1]; rfl, fun j hj => ?_, fun j hj => ?_⟩
  · rw [h2.2.2.1 j (by rw [hw]; exact hj), h.2.2.1 j hj, smN, Int32.add_assoc, h.2.1]
  · rw [h2.2.2.2 j (by rw [hw]; exact hj), h.2.2.2 j hj]
theorem HQ.hour {cA : Nat → ClassId} {ad : Nat → Nat} {f0 : Nat → va_E} {n : Nat} {ρ : Nat → Nat → Option Nat} {S : Sta} {a : Nat} (h : HQ cA ad f0 n ρ S a) : HQ cA ad f0 n ρ (sp_hour S) a := by
  have e : ∀ q, q ≠ 0 → q ≠ 4 → q ≠ 10 → q ≠ 11 → sp_hour S q = S q := fun q h0 h1 h2 h3 => by
    unfold sp_hour
    rw [up2_row h0, hrs_row h1 h2 h3]
  refine h.cg ?_ (e 5 (by decide) (by decide) (by decide) (by decide)) (e 6 (by decide) (by decide) (by decide) (by decide)) (e 12 (by decide) (by decide) (by decide) (by decide)) (e 13 (by decide) (by decide) (by decide) (by decide))
  show cn (sp_hour S 0 0) = _
  unfold sp_hour
  rw [up2_ne (by decide : (0 : Nat) ≠ 1), hrs_row (by decide) (by decide) (by decide)]
  rfl
theorem HQ.hrs {cA : Nat → ClassId} {ad : Nat → Nat} {f0 : Nat → va_E} {n : Nat} {ρ : Nat → Nat → Option Nat} {S : Sta} {a : Nat} (h : HQ cA ad f0 n ρ S a) (tk : Nat → Int32) (m : Nat) : HQ cA ad f0 n ρ (hrs S tk m) a :=
  h.cg (hrs_wh m) (hrs_row (by decide) (by decide) (by decide) m) (hrs_row (by decide) (by decide) (by decide) m) (hrs_row (by decide) (by decide) (by decide) m) (hrs_row (by decide) (by decide) (by decide) m)
theorem HQ.hrN {cA : Nat → ClassId} {ad : Nat → Nat} {f0 : Nat → va_E} {n : Nat} {ρ : Nat → Nat → Option Nat} {S : Sta} {a : Nat} (h : HQ cA ad f0 n ρ S a) : ∀ m, HQ cA ad f0 n ρ (hrN S m) a
  | 0 => h
  | m + 1 => (HQ.hrN h m).hour
theorem su_st {f t V8 : Nat → Int32} {k : Nat} {x : Int32} (h : ∀ j, V8 j = if j < k then f j + t j else f j) (hx : x = t k) : ∀ j, upd V8 k (V8 k + x) j = if j < k + 1 then f j + t j else f j := fun j => by
  by_cases z : j = k
  · rw [z, pk_us, if_pos (by omega), h, if_neg (by omega), hx]
  · rw [pk_un z, h]
    by_cases y : j < k
    · rw [if_pos y, if_pos (by omega)]
    · rw [if_neg y, if_neg (by omega)]
