/-! a text is told no more -/
section UNT
variable {p : Program} {l : Launch} {e : Env} {R : Room} {s : State} {m : MethodId} {args : Array Value} {below : List Frame} {meth : Method} {c : Code} {H H0 : Heap} {locs : List Loc} {cells slots : Nat} {Q : State → Prop}
variable {cc : ByteArray} {pc nL : Nat} {ls : Array Slot} {rest : List Value} {own : String} {index : Nat}
variable {D : va_G} {cA : Nat → ClassId} {ad : Nat → Nat} {n : Nat} {f0 : Nat → va_E} {U T : Tta} {ρ : Rho} {r : Nat × Nat} {A : Nat → Prop}
theorem x_astX (hC : CallFix p m c cc nL s args lw_all own) (hK : KC D cA s) (hP : XW D cA ad n f0 ρ r U H) (hD : gD A ad n) (hS : va_S A H0 H locs) (hn : 81 ≤ n) (a u : Nat) (ha : a < 3) (hu : u < 2) (hdg : decode cc pc = .ok (.aastore, 1))
    (kk : ∀ (H1 : Heap) (locs1 : List Loc), XW D cA ad n f0 (rh ρ (3 + a) u none) r U H1 → va_S A H0 H1 locs1 → W p l e R s m args below meth c H1 locs1 cells slots Q (F0 m (pc + 1) ls rest)) : W p l e R s m args below meth c H locs cells slots Q (F0 m pc ls (.null :: .int (nI u) :: .ref (ad (3 + 22 * a + 11)) :: rest)) := by
  refine va_astqN (C := "WheelBrook$Text") hC.1 hC.2.1 hK.1 hP hD.D hS (3 + 22 * a + 11) 4 ((gw_at (by omega)).trans (by rw [wo_tx ha])) rfl (vp_in_nI hu (by omega)) hdg (fun H1 locs1 hP1 _ hS1 => kk H1 locs1 ?_ hS1)
  rw [nI_clamp (by omega)] at hP1
  have e1 := c_wX (cA := cA) (ad := ad) (f0 := f0) (U := U) (ρ := ρ) (r := r) (u := u) (w := none) ha hn
  show va_P D cl (cw cA ad n f0 U (rh ρ (3 + a) u none) r) H1
  rw [← e1]
  exact hP1
theorem hq_unt {S : Sta} {a u : Nat} (h : HQ cA ad f0 n ρ S a) (hu : u < 2) (ha : a < 3) : HQ cA ad f0 n (rh ρ (3 + a) u none) (up2 S (12 + u) 0 (nI 0)) a := by
  refine ⟨fun k hk => ?_, fun v hv => ?_⟩
  · have hk2 : k < wh S := by
      have e : wh (up2 S (12 + u) 0 (nI 0)) = wh S := by unfold wh; rw [up2_row (by omega)]
      rw [e] at hk
      exact hk
    obtain ⟨w, kd, hw⟩ := h.1 k hk2
    refine ⟨w, kd, ?_⟩
    unfold WK at hw ⊢
    rw [rh_n (by omega), up2_row (by omega), up2_row (by omega)]
    exact hw
  · rw [rh_s]
    by_cases e : v = u
    · subst e
      left
      rw [up2_at, va_up_self]
      exact ⟨rfl, rfl⟩
    · rw [up2_row (by omega), va_up_ne _ _ e]
      exact h.2 v hv
theorem CQ.unt {u : Nat} (h : CQ cA ad n f0 U ρ r T) (hu : u < 2) : CQ cA ad n f0 (uS U r.1 (up2 (U r.1) (12 + u) 0 (nI 0))) (rh ρ (3 + r.1) u none) r (tS T (up2 (T 0) (12 + u) 0 (nI 0))) := by
  have z := h.1.1
  refine ⟨by rw [h.1.2.1]; exact h.1.S, hq_unt h.2.1 hu h.1.lt, hq_ρ h.2.2.1 (rh_n (by omega)) (rh_n (by omega)), h.2.2.2.cg (rh_n (by omega)) rfl rfl rfl⟩
end UNT
