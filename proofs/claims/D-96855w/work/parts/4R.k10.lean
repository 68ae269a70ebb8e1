theorem cX1_become_ {l : Launch} {D : va_G} {cA : Nat → ClassId} {ad : Nat → Nat} {n : Nat} {f0 : Nat → va_E} {ρ : Nat → Nat → Option Nat} {r : Nat × Nat} {U : Nat → Nat → Nat → Int32} (hn : 81 ≤ n) {A : Nat → Prop} (hD : gD A ad n) {a b : Nat} (ha : a < 3) (hb2 : b < 3) (hab : b ≠ a) (hI : Inv (U b)) (htx : ∀ u, u < 2 → ∀ w, ρ (3 + b) u = some w → 81 ≤ w ∧ w < n ∧ ∃ fs, f0 w = .inr (14, fs)) : XVq l D cA ad n f0 ρ r U A yX1_become cX1_become 3 (1) [.ref (ad (3 + 22 * a)), .ref (ad (3 + 22 * b))] (fun V ρ1 r1 => V = uS U a (U b) ∧ ρ1 = bρ ρ a b ∧ r1 = r) := by
  refine Cv.of (by decide +kernel) (Nat.le_of_ble_eq_true rfl) ?_
  intro p e s m args below meth c Q hC hK hP hret ls hl
  have hx := hC.1
  have hb := hC.2.1
  have hown := hC.2.2.2.1
  have hts := hC.2.2.2.2
  have hS : va_S A s.heap s.heap [] := va_S.rf
  refine lv_aload_n hx hb dX1_become_0 rfl (hl.at rfl) ?_
  refine lv_aload_n hx hb dX1_become_1 rfl (hl.at rfl) ?_
  refine c_get hC hK hP (3 + 22 * b) (by omega) (wo_ho hb2) rfl in_X1 0 (by decide) q142 rfl rfl dX1_become_2 ?_
  refine c_put (ty := .int) hC hK hP hD hS (3 + 22 * a) (by omega) (wo_ho ha) rfl in_X1 tyX1_ok nmX1 0 (by decide) q142 rfl rfl (by decide +kernel) rfl rfl (by show 0 < 19; decide) (cp_wheels ha hn) dX1_become_5 (fun H locs hP hS => ?_)
  refine lv_aload_n hx hb dX1_become_8 rfl (hl.at rfl) ?_
  refine lv_aload_n hx hb dX1_become_9 rfl (hl.at rfl) ?_
  refine c_get hC hK hP (3 + 22 * b) (by omega) (wo_ho hb2) rfl in_X1 1 (by decide) q144 rfl rfl dX1_become_10 ?_
  refine c_put (ty := .int) hC hK hP hD hS (3 + 22 * a) (by omega) (wo_ho ha) rfl in_X1 tyX1_ok nmX1 1 (by decide) q144 rfl rfl (by decide +kernel) rfl rfl (by show 1 < 19; decide) (cp_hour ha hn) dX1_become_13 (fun H locs hP hS => ?_)
  refine lv_aload_n hx hb dX1_become_16 rfl (hl.at rfl) ?_
  refine lv_aload_n hx hb dX1_become_17 rfl (hl.at rfl) ?_
  refine c_get hC hK hP (3 + 22 * b) (by omega) (wo_ho hb2) rfl in_X1 2 (by decide) q147 rfl rfl dX1_become_18 ?_
  refine c_put (ty := .int) hC hK hP hD hS (3 + 22 * a) (by omega) (wo_ho ha) rfl in_X1 tyX1_ok nmX1 2 (by decide) q147 rfl rfl (by decide +kernel) rfl rfl (by show 2 < 19; decide) (cp_frost ha hn) dX1_become_21 (fun H locs hP hS => ?_)
  refine lv_aload_n hx hb dX1_become_24 rfl (hl.at rfl) ?_
  refine lv_aload_n hx hb dX1_become_25 rfl (hl.at rfl) ?_
  refine c_get hC hK hP (3 + 22 * b) (by omega) (wo_ho hb2) rfl in_X1 3 (by decide) q149 rfl rfl dX1_become_26 ?_
  refine c_put (ty := .int) hC hK hP hD hS (3 + 22 * a) (by omega) (wo_ho ha) rfl in_X1 tyX1_ok nmX1 3 (by decide) q149 rfl rfl (by decide +kernel) rfl rfl (by show 3 < 19; decide) (cp_z ha hn) dX1_become_29 (fun H locs hP hS => ?_)
  refine lv_aload_n hx hb dX1_become_32 rfl (hl.at rfl) ?_
  refine lv_aload_n hx hb dX1_become_33 rfl (hl.at rfl) ?_
  refine c_get hC hK hP (3 + 22 * b) (by omega) (wo_ho hb2) rfl in_X1 4 (by decide) q151 rfl rfl dX1_become_34 ?_
  refine c_put (ty := .int) hC hK hP hD hS (3 + 22 * a) (by omega) (wo_ho ha) rfl in_X1 tyX1_ok nmX1 4 (by decide) q151 rfl rfl (by decide +kernel) rfl rfl (by show 4 < 19; decide) (cp_taped ha hn) dX1_become_37 (fun H locs hP hS => ?_)
  refine lv_aload_n hx hb dX1_become_40 rfl (hl.at rfl) ?_
  refine lv_aload_n hx hb dX1_become_41 rfl (hl.at rfl) ?_
  refine c_get hC hK hP (3 + 22 * b) (by omega) (wo_ho hb2) rfl in_X1 5 (by decide) q153 rfl rfl dX1_become_42 ?_
  refine c_put (ty := .int) hC hK hP hD hS (3 + 22 * a) (by omega) (wo_ho ha) rfl in_X1 tyX1_ok nmX1 5 (by decide) q153 rfl rfl (by decide +kernel) rfl rfl (by show 5 < 19; decide) (cp_waiting ha hn) dX1_become_45 (fun H locs hP hS => ?_)
  simp only [up3_n hab, up3_s, up1_s, up3_up3] at hP
  refine lv_aload_n hx hb dX1_become_48 rfl (hl.at rfl) ?_
  refine c_get hC hK hP (3 + 22 * b) (by omega) (wo_ho hb2) rfl in_X1 6 (by decide) q155 rfl rfl dX1_become_49 ?_
  refine lv_iconst (v := nI 0) hx hb dX1_become_52 rfl ?_
  refine lv_aload_n hx hb dX1_become_53 rfl (hl.at rfl) ?_
  refine c_get hC hK hP (3 + 22 * a) (by omega) (wo_ho ha) rfl in_X1 6 (by decide) q155 rfl rfl dX1_become_54 ?_
  refine lv_iconst (v := nI 0) hx hb dX1_become_57 rfl ?_
  refine lv_bipush (v := nI 24) hx hb dX1_become_58 rfl ?_
  refine c_cpy hC hK hP hD hS hn a b 1 1 1 24 ha hb2 rfl rfl (g := fun x => x) (fun ha => c_ldH _ 1 1 1 24 ha (by decide) (fun _ _ _ => rfl)) ((c_ldH a 1 1 1 24 ha (by decide) (fun _ _ _ => rfl)).trans (by rw [up3_s, up1_s])) rfl (by decide) (by decide) (fun j hj => by simp only [up3_n hab]; exact fit_bd (inv_bd hI 1 j hj) (by decide)) q999 hl.1 (by decide) (by decide +kernel) dX1_become_60 (fun H locs hP hS => ?_)
  refine lv_aload_n hx hb dX1_become_63 rfl (hl.at rfl) ?_
  refine c_get hC hK hP (3 + 22 * b) (by omega) (wo_ho hb2) rfl in_X1 7 (by decide) q157 rfl rfl dX1_become_64 ?_
  refine lv_iconst (v := nI 0) hx hb dX1_become_67 rfl ?_
  refine lv_aload_n hx hb dX1_become_68 rfl (hl.at rfl) ?_
  refine c_get hC hK hP (3 + 22 * a) (by omega) (wo_ho ha) rfl in_X1 7 (by decide) q157 rfl rfl dX1_become_69 ?_
  refine lv_iconst (v := nI 0) hx hb dX1_become_72 rfl ?_
  refine lv_bipush (v := nI 12) hx hb dX1_become_73 rfl ?_
  refine c_cpy hC hK hP hD hS hn a b 2 2 1 12 ha hb2 rfl rfl (g := fun x => x) (fun ha => c_ldH _ 2 2 1 12 ha (by decide) (fun _ _ _ => rfl)) ((c_ldH a 2 2 1 12 ha (by decide) (fun _ _ _ => rfl)).trans (by rw [up3_s, up1_s])) rfl (by decide) (by decide) (fun j hj => by simp only [up3_n hab]; exact fit_bd (inv_bd hI 2 j hj) (by decide)) q999 hl.1 (by decide) (by decide +kernel) dX1_become_75 (fun H locs hP hS => ?_)
  refine lv_aload_n hx hb dX1_become_78 rfl (hl.at rfl) ?_
  refine c_get hC hK hP (3 + 22 * b) (by omega) (wo_ho hb2) rfl in_X1 8 (by decide) q159 rfl rfl dX1_become_79 ?_
  refine lv_iconst (v := nI 0) hx hb dX1_become_82 rfl ?_
  refine lv_aload_n hx hb dX1_become_83 rfl (hl.at rfl) ?_
  refine c_get hC hK hP (3 + 22 * a) (by omega) (wo_ho ha) rfl in_X1 8 (by decide) q159 rfl rfl dX1_become_84 ?_
  refine lv_iconst (v := nI 0) hx hb dX1_become_87 rfl ?_
  refine lv_iconst (v := nI 5) hx hb dX1_become_88 rfl ?_
  refine c_cpy hC hK hP hD hS hn a b 3 3 0 5 ha hb2 rfl rfl (g := fun x => x) (fun ha => c_ldH _ 3 3 0 5 ha (by decide) (fun _ _ _ => rfl)) ((c_ldH a 3 3 0 5 ha (by decide) (fun _ _ _ => rfl)).trans (by rw [up3_s, up1_s])) rfl (by decide) (by decide) (fun _ _ => rfl) q999 hl.1 (by decide) (by decide +kernel) dX1_become_89 (fun H locs hP hS => ?_)
  refine lv_aload_n hx hb dX1_become_92 rfl (hl.at rfl) ?_
  refine c_get hC hK hP (3 + 22 * b) (by omega) (wo_ho hb2) rfl in_X1 9 (by decide) q161 rfl rfl dX1_become_93 ?_
  refine lv_iconst (v := nI 0) hx hb dX1_become_96 rfl ?_
  refine lv_aload_n hx hb dX1_become_97 rfl (hl.at rfl) ?_
  refine c_get hC hK hP (3 + 22 * a) (by omega) (wo_ho ha) rfl in_X1 9 (by decide) q161 rfl rfl dX1_become_98 ?_
  refine lv_iconst (v := nI 0) hx hb dX1_become_101 rfl ?_
  refine lv_iconst (v := nI 5) hx hb dX1_become_102 rfl ?_
  refine c_cpy hC hK hP hD hS hn a b 4 4 0 5 ha hb2 rfl rfl (g := fun x => x) (fun ha => c_ldH _ 4 4 0 5 ha (by decide) (fun _ _ _ => rfl)) ((c_ldH a 4 4 0 5 ha (by decide) (fun _ _ _ => rfl)).trans (by rw [up3_s, up1_s])) rfl (by decide) (by decide) (fun _ _ => rfl) q999 hl.1 (by decide) (by decide +kernel) dX1_become_103 (fun H locs hP hS => ?_)
  obtain ⟨W0, hP0, hW1, hW2, hW3⟩ : ∃ W, XW D cA ad n f0 ρ r W H ∧ (∀ x, x ≠ a → W x = U x) ∧ (∀ j, j < 6 → W a 0 j = U b 0 j) ∧ (∀ q, q = 1 ∨ q = 2 ∨ q = 3 ∨ q = 4 → W a q = U b q) := by
    refine ⟨_, hP, fun x hx => by simp only [up3_n hx], fun j hj => ?_, fun q hq => ?_⟩
    · rcases (by omega : j = 0 ∨ j = 1 ∨ j = 2 ∨ j = 3 ∨ j = 4 ∨ j = 5) with rfl | rfl | rfl | rfl | rfl | rfl <;> simp [up3_s, up1, upd]
    · rcases hq with rfl | rfl | rfl | rfl <;> simp [up3_s, up3_n hab, up1]
  replace hP := hP0
  refine lv_iconst (v := nI 0) hx hb dX1_become_106 rfl ?_
  refine l_istore_n hx hb 2 dX1_become_107 rfl hl rfl (fun ls hl => ?_)
  have loop : ∀ (i k : Nat), k ≤ 8 → 9 ≤ k + i → ∀ (H : Heap) (locs : List Loc) (ls : Array Slot), XW D cA ad n f0 (rc ρ a b k) r W0 H → va_S A s.heap H locs → lh ls [some (.ref (ad (3 + 22 * a))), some (.ref (ad (3 + 22 * b))), some (.int (nI k))] → W p l e (rmG 1 0 0) s m args below meth c H locs 0 0 Q (F0 m 108 ls []) := by
    intro i
    induction i with
    | zero => intro k h1 h2; exact absurd h2 (by omega)
    | succ i ih =>
      intro k h1 h2 H locs ls hP hS hl
      refine lv_iload_n hx hb dX1_become_108 rfl (hl.at rfl) ?_
      refine lv_bipush (v := nI 8) hx hb dX1_become_109 rfl ?_
      refine l_geN hx hb 138 dX1_become_111 rfl (by omega) (by omega) (fun c111 => ?_) (fun c111 => ?_)
      · have e5 : k = 8 := by omega
        subst e5
        refine lv_aload_n hx hb dX1_become_138 rfl (hl.at rfl) ?_
        refine c_get hC hK hP (3 + 22 * b) (by omega) (wo_ho hb2) rfl in_X1 11 (by decide) q165 rfl rfl dX1_become_139 ?_
        refine lv_iconst (v := nI 0) hx hb dX1_become_142 rfl ?_
        refine lv_aload_n hx hb dX1_become_143 rfl (hl.at rfl) ?_
        refine c_get hC hK hP (3 + 22 * a) (by omega) (wo_ho ha) rfl in_X1 11 (by decide) q165 rfl rfl dX1_become_144 ?_
        refine lv_iconst (v := nI 0) hx hb dX1_become_147 rfl ?_
        refine lv_bipush (v := nI 8) hx hb dX1_become_148 rfl ?_
        refine c_cpy hC hK hP hD hS hn a b 6 7 1 8 ha hb2 rfl rfl (g := fun x => x) (fun ha => c_ldH _ 6 7 1 8 ha (by decide) (fun _ _ _ => rfl)) ((c_ldH a 6 7 1 8 ha (by decide) (fun _ _ _ => rfl)).trans (by rw [up3_s, up1_s])) rfl (by decide) (by decide) (fun j hj => by simp only [up3_n hab, hW1 b hab]; exact fit_bd (inv_bd hI 7 j hj) (by decide)) q999 hl.1 (by decide) (by decide +kernel) dX1_become_150 (fun H locs hP hS => ?_)
        refine lv_aload_n hx hb dX1_become_153 rfl (hl.at rfl) ?_
        refine c_get hC hK hP (3 + 22 * b) (by omega) (wo_ho hb2) rfl in_X1 12 (by decide) q168 rfl rfl dX1_become_154 ?_
        refine lv_iconst (v := nI 0) hx hb dX1_become_157 rfl ?_
        refine lv_aload_n hx hb dX1_become_158 rfl (hl.at rfl) ?_
        refine c_get hC hK hP (3 + 22 * a) (by omega) (wo_ho ha) rfl in_X1 12 (by decide) q168 rfl rfl dX1_become_159 ?_
        refine lv_iconst (v := nI 0) hx hb dX1_become_162 rfl ?_
        refine lv_bipush (v := nI 8) hx hb dX1_become_163 rfl ?_
        refine c_cpy hC hK hP hD hS hn a b 7 8 1 8 ha hb2 rfl rfl (g := fun x => x) (fun ha => c_ldH _ 7 8 1 8 ha (by decide) (fun _ _ _ => rfl)) ((c_ldH a 7 8 1 8 ha (by decide) (fun _ _ _ => rfl)).trans (by rw [up3_s, up1_s])) rfl (by decide) (by decide) (fun j hj => by simp only [up3_n hab, hW1 b hab]; exact fit_bd (inv_bd hI 8 j hj) (by decide)) q999 hl.1 (by decide) (by decide +kernel) dX1_become_165 (fun H locs hP hS => ?_)
        refine lv_aload_n hx hb dX1_become_168 rfl (hl.at rfl) ?_
        refine c_get hC hK hP (3 + 22 * b) (by omega) (wo_ho hb2) rfl in_X1 13 (by decide) q170 rfl rfl dX1_become_169 ?_
        refine lv_iconst (v := nI 0) hx hb dX1_become_172 rfl ?_
        refine lv_aload_n hx hb dX1_become_173 rfl (hl.at rfl) ?_
        refine c_get hC hK hP (3 + 22 * a) (by omega) (wo_ho ha) rfl in_X1 13 (by decide) q170 rfl rfl dX1_become_174 ?_
        refine lv_iconst (v := nI 0) hx hb dX1_become_177 rfl ?_
        refine lv_bipush (v := nI 8) hx hb dX1_become_178 rfl ?_
        refine c_cpy hC hK hP hD hS hn a b 8 9 1 8 ha hb2 rfl rfl (g := fun x => x) (fun ha => c_ldH _ 8 9 1 8 ha (by decide) (fun _ _ _ => rfl)) ((c_ldH a 8 9 1 8 ha (by decide) (fun _ _ _ => rfl)).trans (by rw [up3_s, up1_s])) rfl (by decide) (by decide) (fun j hj => by simp only [up3_n hab, hW1 b hab]; exact fit_bd (inv_bd hI 9 j hj) (by decide)) q999 hl.1 (by decide) (by decide +kernel) dX1_become_180 (fun H locs hP hS => ?_)
        refine lv_aload_n hx hb dX1_become_183 rfl (hl.at rfl) ?_
        refine c_get hC hK hP (3 + 22 * b) (by omega) (wo_ho hb2) rfl in_X1 14 (by decide) q172 rfl rfl dX1_become_184 ?_
        refine lv_iconst (v := nI 0) hx hb dX1_become_187 rfl ?_
        refine lv_aload_n hx hb dX1_become_188 rfl (hl.at rfl) ?_
        refine c_get hC hK hP (3 + 22 * a) (by omega) (wo_ho ha) rfl in_X1 14 (by decide) q172 rfl rfl dX1_become_189 ?_
        refine lv_iconst (v := nI 0) hx hb dX1_become_192 rfl ?_
        refine lv_bipush (v := nI 8) hx hb dX1_become_193 rfl ?_
        refine c_cpy hC hK hP hD hS hn a b 9 10 0 8 ha hb2 rfl rfl (g := fun x => x) (fun ha => c_ldH _ 9 10 0 8 ha (by decide) (fun _ _ _ => rfl)) ((c_ldH a 9 10 0 8 ha (by decide) (fun _ _ _ => rfl)).trans (by rw [up3_s, up1_s])) rfl (by decide) (by decide) (fun _ _ => rfl) q999 hl.1 (by decide) (by decide +kernel) dX1_become_195 (fun H locs hP hS => ?_)
        refine lv_aload_n hx hb dX1_become_198 rfl (hl.at rfl) ?_
        refine c_get hC hK hP (3 + 22 * b) (by omega) (wo_ho hb2) rfl in_X1 15 (by decide) q175 rfl rfl dX1_become_199 ?_
        refine lv_iconst (v := nI 0) hx hb dX1_become_202 rfl ?_
        refine lv_aload_n hx hb dX1_become_203 rfl (hl.at rfl) ?_
        refine c_get hC hK hP (3 + 22 * a) (by omega) (wo_ho ha) rfl in_X1 15 (by decide) q175 rfl rfl dX1_become_204 ?_
        refine lv_iconst (v := nI 0) hx hb dX1_become_207 rfl ?_
        refine lv_bipush (v := nI 8) hx hb dX1_become_208 rfl ?_
        refine c_cpy hC hK hP hD hS hn a b 10 11 0 8 ha hb2 rfl rfl (g := fun x => x) (fun ha => c_ldH _ 10 11 0 8 ha (by decide) (fun _ _ _ => rfl)) ((c_ldH a 10 11 0 8 ha (by decide) (fun _ _ _ => rfl)).trans (by rw [up3_s, up1_s])) rfl (by decide) (by decide) (fun _ _ => rfl) q999 hl.1 (by decide) (by decide +kernel) dX1_become_210 (fun H locs hP hS => ?_)
        refine lv_aload_n hx hb dX1_become_213 rfl (hl.at rfl) ?_
        refine c_get hC hK hP (3 + 22 * b) (by omega) (wo_ho hb2) rfl in_X1 16 (by decide) q177 rfl rfl dX1_become_214 ?_
        refine lv_iconst (v := nI 0) hx hb dX1_become_217 rfl ?_
        refine lv_aload_n hx hb dX1_become_218 rfl (hl.at rfl) ?_
        refine c_get hC hK hP (3 + 22 * a) (by omega) (wo_ho ha) rfl in_X1 16 (by decide) q177 rfl rfl dX1_become_219 ?_
        refine lv_iconst (v := nI 0) hx hb dX1_become_222 rfl ?_
        refine lv_iconst (v := nI 2) hx hb dX1_become_223 rfl ?_
        refine c_cpx hC hK hP hD hS hn a b ha hb2 (fun u hu w hw => htx u hu w (by rw [rc_n (by omega)] at hw; exact hw)) q999 hl.1 (by decide) (by decide +kernel) dX1_become_224 (fun H locs hP hS => ?_)
        refine lv_aload_n hx hb dX1_become_227 rfl (hl.at rfl) ?_
        refine c_get hC hK hP (3 + 22 * b) (by omega) (wo_ho hb2) rfl in_X1 17 (by decide) q180 rfl rfl dX1_become_228 ?_
        refine lv_iconst (v := nI 0) hx hb dX1_become_231 rfl ?_
        refine lv_aload_n hx hb dX1_become_232 rfl (hl.at rfl) ?_
        refine c_get hC hK hP (3 + 22 * a) (by omega) (wo_ho ha) rfl in_X1 17 (by decide) q180 rfl rfl dX1_become_233 ?_
        refine lv_iconst (v := nI 0) hx hb dX1_become_236 rfl ?_
        refine lv_bipush (v := nI 60) hx hb dX1_become_237 rfl ?_
        refine c_cpy hC hK hP hD hS hn a b 12 14 1 60 ha hb2 rfl rfl (g := nB) (fun ha => wo_tp ha) ((wo_tp ha).trans (by rw [up3_s, up1_s])) rfl (by decide) (by decide) (fun _ _ => pk_fb _) q999 hl.1 (by decide) (by decide +kernel) dX1_become_239 (fun H locs hP hS => ?_)
        refine lv_aload_n hx hb dX1_become_242 rfl (hl.at rfl) ?_
        refine c_get hC hK hP (3 + 22 * b) (by omega) (wo_ho hb2) rfl in_X1 18 (by decide) q182 rfl rfl dX1_become_243 ?_
        refine lv_iconst (v := nI 0) hx hb dX1_become_246 rfl ?_
        refine lv_aload_n hx hb dX1_become_247 rfl (hl.at rfl) ?_
        refine c_get hC hK hP (3 + 22 * a) (by omega) (wo_ho ha) rfl in_X1 18 (by decide) q182 rfl rfl dX1_become_248 ?_
        refine lv_iconst (v := nI 0) hx hb dX1_become_251 rfl ?_
        refine lv_bipush (v := nI 24) hx hb dX1_become_252 rfl ?_
        refine c_cpy hC hK hP hD hS hn a b 13 15 0 24 ha hb2 rfl rfl (g := fun x => x) (fun ha => c_ldH _ 13 15 0 24 ha (by decide) (fun _ _ _ => rfl)) ((c_ldH a 13 15 0 24 ha (by decide) (fun _ _ _ => rfl)).trans (by rw [up3_s, up1_s])) rfl (by decide) (by decide) (fun _ _ => rfl) q999 hl.1 (by decide) (by decide +kernel) dX1_become_254 (fun H locs hP hS => ?_)
        replace hP := XW.bec (U := U) ha hb2 hab hP (fun x hx => by simp only [up3_n hx]; exact hW1 x hx) (fun j hj => by rw [← hW2 j hj]; simp [up3_s, up1]) (fun q z0 z1 z2 z3 z4 z5 => by
          rcases (by omega : q = 1 ∨ q = 2 ∨ q = 3 ∨ q = 4 ∨ q = 7 ∨ q = 8 ∨ q = 9 ∨ q = 10 ∨ q = 11 ∨ q = 14 ∨ q = 15) with rfl | rfl | rfl | rfl | rfl | rfl | rfl | rfl | rfl | rfl | rfl
          · rw [← hW3 1 (by decide)]; simp [up3_s, up1]
          · rw [← hW3 2 (by decide)]; simp [up3_s, up1]
          · rw [← hW3 3 (by decide)]; simp [up3_s, up1]
          · rw [← hW3 4 (by decide)]; simp [up3_s, up1]
          · simp [up3_s, up1, up3_n hab, hW1 b hab]
          · simp [up3_s, up1, up3_n hab, hW1 b hab]
          · simp [up3_s, up1, up3_n hab, hW1 b hab]
          · simp [up3_s, up1, up3_n hab, hW1 b hab]
          · simp [up3_s, up1, up3_n hab, hW1 b hab]
          · simp [up3_s, up1, up3_n hab, hW1 b hab]
          · simp [up3_s, up1, up3_n hab, hW1 b hab]
          )
        refine hret _ _ ls _ (_, _, _) hP hS dX1_become_257 ?_
        dsimp only
        exact ⟨rfl, rfl, rfl⟩
      · refine lv_aload_n hx hb dX1_become_114 rfl (hl.at rfl) ?_
        refine c_get hC hK hP (3 + 22 * a) (by omega) (wo_ho ha) rfl in_X1 10 (by decide) q163 rfl rfl dX1_become_115 ?_
        refine lv_iload_n hx hb dX1_become_118 rfl (hl.at rfl) ?_
        refine x_ald hC hK hP (3 + 22 * a + 5) (by omega) 3 (wo_wh ha) rfl k (rfl) ((show k < 8 by omega)) (by decide) dX1_become_119 ?_
        refine lv_aload_n hx hb dX1_become_120 rfl (hl.at rfl) ?_
        refine c_get hC hK hP (3 + 22 * b) (by omega) (wo_ho hb2) rfl in_X1 10 (by decide) q163 rfl rfl dX1_become_121 ?_
        refine lv_iload_n hx hb dX1_become_124 rfl (hl.at rfl) ?_
        refine x_ald hC hK hP (3 + 22 * b + 5) (by omega) 3 (wo_wh hb2) rfl k (rfl) ((show k < 8 by omega)) (by decide) dX1_become_125 ?_
        refine c_getN hC hK hP (3 + 22 * b + 14 + k) (by omega) (wo_sl hb2 ((show k < 8 by omega))) rfl in_X2 0 (by decide) q135 rfl rfl dX1_become_126 ?_
        refine c_putN (ty := .object "java/lang/Object") hC hK hP hD hS (3 + 22 * a + 14 + k) (by omega) (wo_sl ha ((show k < 8 by omega))) rfl in_X2 tyX2_ok nmX2 0 (by decide) q135 rfl rfl (by decide +kernel) (rf_n _) (rf_f _) (by show 0 < 1; decide) (c_wL ha ((show k < 8 by omega)) hn) dX1_become_129 (fun H locs hP hS => ?_)
        refine l_inc1 hx hb 2 dX1_become_132 hl rfl rfl (fun ls hl => ?_)
        refine lv_goto (tgt := 108) hx hb dX1_become_135 rfl ?_
        exact ih (k + 1) (by omega) (by omega) _ _ _ (by rw [rc_st hab] at hP; exact hP) hS hl
  exact loop 9 0 (by omega) (by omega) _ _ _ (by rw [rc_0]; exact hP) hS hl
theorem cX0_swaps_ {l : Launch} {D : va_G} {cA : Nat → ClassId} {ad : Nat → Nat} {n : Nat} {f0 : Nat → va_E} {ρ : Nat → Nat → Option Nat} {r : Nat × Nat} {U : Nat → Nat → Nat → Int32} (hn : 81 ≤ n) {A : Nat → Prop} (hD : gD A ad n) (hr : r.1 < 3) (hr2 : r.2 < 3) : XVq l D cA ad n f0 ρ r U A yX0_swaps cX0_swaps 2 (0) [.ref (ad 0)] (fun V ρ1 r1 => V = U ∧ ρ1 = ρ ∧ r1 = (r.2, r.1)) := by
  refine Cv.of (by decide +kernel) (Nat.le_of_ble_eq_true rfl) ?_
  intro p e s m args below meth c Q hC hK hP hret ls hl
  have hx := hC.1
  have hb := hC.2.1
  have hown := hC.2.2.2.1
  have hts := hC.2.2.2.2
  have hS : va_S A s.heap s.heap [] := va_S.rf
  refine lv_aload_n hx hb dX0_swaps_0 rfl (hl.at rfl) ?_
  refine c_get hC hK hP 0 (by omega) (wo_wb) rfl in_X0 2 (by decide) q254 rfl rfl dX0_swaps_1 ?_
  refine l_astore_n hx hb 1 dX0_swaps_4 rfl hl rfl (fun ls hl => ?_)
  refine lv_aload_n hx hb dX0_swaps_5 rfl (hl.at rfl) ?_
  refine lv_aload_n hx hb dX0_swaps_6 rfl (hl.at rfl) ?_
  refine c_get hC hK hP 0 (by omega) (wo_wb) rfl in_X0 3 (by decide) q255 rfl rfl dX0_swaps_7 ?_
  refine c_put (ty := .object "WheelBrook$House") hC hK hP hD hS 0 (by omega) (wo_wb) rfl in_X0 tyX0_ok nmX0 2 (by decide) q254 rfl rfl (by decide +kernel) rfl rfl (by show 2 < 15; decide) (cp_house hn) dX0_swaps_10 (fun H locs hP hS => ?_)
  refine lv_aload_n hx hb dX0_swaps_13 rfl (hl.at rfl) ?_
  refine lv_aload_n hx hb dX0_swaps_14 rfl (hl.at rfl) ?_
  refine c_put (ty := .object "WheelBrook$House") hC hK hP hD hS 0 (by omega) (wo_wb) rfl in_X0 tyX0_ok nmX0 3 (by decide) q255 rfl rfl (by decide +kernel) rfl rfl (by show 3 < 15; decide) (cp_aside hn) dX0_swaps_15 (fun H locs hP hS => ?_)
  refine hret _ _ ls _ (_, _, _) hP hS dX0_swaps_18 ?_
  dsimp only
  exact ⟨rfl, rfl, rfl⟩
theorem cv_X0_309 : CV RX0 RX1 309 yX1_become cX1_become 3 (none) 1 := ⟨lw_V q995 q996 q997 q84 q998, by decide +kernel⟩
theorem cv_X0_313 : CV RX0 RX0 313 yX0_swaps cX0_swaps 2 (none) 0 := ⟨lw_V q1002 q1004 qs27 q83 q1005, by decide +kernel⟩
theorem cX0_begins_ {l : Launch} {D : va_G} {cA : Nat → ClassId} {ad : Nat → Nat} {n : Nat} {f0 : Nat → va_E} {ρ : Nat → Nat → Option Nat} {r : Nat × Nat} {U : Nat → Nat → Nat → Int32} (hn : 81 ≤ n) {A : Nat → Prop} (hD : gD A ad n) (hr : r.1 < 3) (hr2 : r.2 < 3) (hne : r.1 ≠ r.2) (hI : Inv (U r.1)) (hQ : HQ cA ad f0 n ρ (U r.1) r.1) : XVq l D cA ad n f0 ρ r U A yX0_begins cX0_begins 1 (2) [.ref (ad 0)] (fun V ρ1 r1 => V = uS U r.2 (U r.1) ∧ ρ1 = bρ ρ r.2 r.1 ∧ r1 = (r.2, r.1)) := by
  refine Cv.of (by decide +kernel) (Nat.le_of_ble_eq_true rfl) ?_
  intro p e s m args below meth c Q hC hK hP hret ls hl
  have hx := hC.1
  have hb := hC.2.1
  have hown := hC.2.2.2.1
  have hts := hC.2.2.2.2
  have hS : va_S A s.heap s.heap [] := va_S.rf
  refine lv_aload_n hx hb dX0_begins_0 rfl (hl.at rfl) ?_
  refine c_get hC hK hP 0 (by omega) (wo_wb) rfl in_X0 3 (by decide) q255 rfl rfl dX0_begins_1 ?_
  refine lv_aload_n hx hb dX0_begins_4 rfl (hl.at rfl) ?_
  refine c_get hC hK hP 0 (by omega) (wo_wb) rfl in_X0 2 (by decide) q254 rfl rfl dX0_begins_5 ?_
  refine x_vVq hC hK hP hS (x_rHO hr2 hK hP hn) (cX1_become_ hn hD hr2 hr hne hI (hq_tx hQ)) cv_X0_309 rfl rfl hl.1 (Nat.le_of_ble_eq_true rfl) dX0_begins_8 (rk (by decide) (by decide)) ⟨Nat.le_refl _, Nat.le_refl _⟩ (fun U8 ρ8 q8 H locs p8 hP hS => ?_)
  obtain ⟨rfl, rfl, rfl⟩ := p8
  refine lv_aload_n hx hb dX0_begins_11 rfl (hl.at rfl) ?_
  refine x_vVq hC hK hP hS (x_rWB hK hP hn) (cX0_swaps_ hn hD hr hr2) cv_X0_313 rfl rfl hl.1 (Nat.le_of_ble_eq_true rfl) dX0_begins_12 (rk (by decide) (by decide)) ⟨Nat.le_refl _, Nat.le_refl _⟩ (fun U12 ρ12 q12 H locs p12 hP hS => ?_)
  obtain ⟨rfl, rfl, rfl⟩ := p12
  refine hret _ _ ls _ (_, _, _) hP hS dX0_begins_15 ?_
  dsimp only
  exact ⟨rfl, rfl, rfl⟩
