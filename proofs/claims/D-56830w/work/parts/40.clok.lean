/-! the classes are as they are said to be -/
theorem clOK_0 : ClOK 0 (qcl 0) := ⟨fun w h => in_X1 w (by have e : u_ws (qcl 0).1 (qcl 0).2.1 (qcl 0).2.2 = wsX10 := rfl; rw [← e]; exact h), by decide +kernel, by decide +kernel⟩
theorem clOK_1 : ClOK 1 (qcl 1) := ⟨fun w h => in_X2 w (by have e : u_ws (qcl 1).1 (qcl 1).2.1 (qcl 1).2.2 = wsX20 := rfl; rw [← e]; exact h), by decide +kernel, by decide +kernel⟩
theorem clOK_2 : ClOK 2 (qcl 2) := ⟨fun w h => in_X3 w (by have e : u_ws (qcl 2).1 (qcl 2).2.1 (qcl 2).2.2 = wsX30 := rfl; rw [← e]; exact h), by decide +kernel, by decide +kernel⟩
theorem clOK_3 : ClOK 3 (qcl 3) := ⟨fun w h => in_X4 w (by have e : u_ws (qcl 3).1 (qcl 3).2.1 (qcl 3).2.2 = wsX40 := rfl; rw [← e]; exact h), by decide +kernel, by decide +kernel⟩
theorem clOK_4 : ClOK 4 (qcl 4) := ⟨fun w h => in_X5 w (by have e : u_ws (qcl 4).1 (qcl 4).2.1 (qcl 4).2.2 = wsX50 := rfl; rw [← e]; exact h), by decide +kernel, by decide +kernel⟩
theorem clOK_5 : ClOK 5 (qcl 5) := ⟨fun w h => in_X12 w (by have e : u_ws (qcl 5).1 (qcl 5).2.1 (qcl 5).2.2 = wsX120 := rfl; rw [← e]; exact h), by decide +kernel, by decide +kernel⟩
theorem clOK_6 : ClOK 6 (qcl 6) := ⟨fun w h => in_X13 w (by have e : u_ws (qcl 6).1 (qcl 6).2.1 (qcl 6).2.2 = wsX130 := rfl; rw [← e]; exact h), by decide +kernel, by decide +kernel⟩
theorem clOK_7 : ClOK 7 (qcl 7) := ⟨fun w h => in_X14 w (by have e : u_ws (qcl 7).1 (qcl 7).2.1 (qcl 7).2.2 = wsX140 := rfl; rw [← e]; exact h), by decide +kernel, by decide +kernel⟩
theorem clOK_8 : ClOK 8 (qcl 8) := ⟨fun w h => in_X15 w (by have e : u_ws (qcl 8).1 (qcl 8).2.1 (qcl 8).2.2 = wsX150 := rfl; rw [← e]; exact h), by decide +kernel, by decide +kernel⟩
theorem clOK_9 : ClOK 9 (qcl 9) := ⟨fun w h => in_X18 w (by have e : u_ws (qcl 9).1 (qcl 9).2.1 (qcl 9).2.2 = wsX180 := rfl; rw [← e]; exact h), by decide +kernel, by decide +kernel⟩
theorem clOK_10 : ClOK 10 (qcl 10) := ⟨fun w h => in_X19 w (by have e : u_ws (qcl 10).1 (qcl 10).2.1 (qcl 10).2.2 = wsX190 := rfl; rw [← e]; exact h), by decide +kernel, by decide +kernel⟩
theorem clOK_11 : ClOK 11 (qcl 11) := ⟨fun w h => in_X20 w (by have e : u_ws (qcl 11).1 (qcl 11).2.1 (qcl 11).2.2 = wsX200 := rfl; rw [← e]; exact h), by decide +kernel, by decide +kernel⟩
theorem clOK_12 : ClOK 12 (qcl 12) := ⟨fun w h => in_X21 w (by have e : u_ws (qcl 12).1 (qcl 12).2.1 (qcl 12).2.2 = wsX210 := rfl; rw [← e]; exact h), by decide +kernel, by decide +kernel⟩
theorem clOK_13 : ClOK 13 (qcl 13) := ⟨fun w h => in_X23 w (by have e : u_ws (qcl 13).1 (qcl 13).2.1 (qcl 13).2.2 = wsX230 := rfl; rw [← e]; exact h), by decide +kernel, by decide +kernel⟩
theorem clOK_14 : ClOK 14 (qcl 14) := ⟨fun w h => in_X6 w (by have e : u_ws (qcl 14).1 (qcl 14).2.1 (qcl 14).2.2 = wsX60 := rfl; rw [← e]; exact h), by decide +kernel, by decide +kernel⟩
theorem clOK_15 : ClOK 15 (qcl 15) := ⟨fun w h => in_X7 w (by have e : u_ws (qcl 15).1 (qcl 15).2.1 (qcl 15).2.2 = wsX70 := rfl; rw [← e]; exact h), by decide +kernel, by decide +kernel⟩
theorem clOK_16 : ClOK 16 (qcl 16) := ⟨fun w h => in_X8 w (by have e : u_ws (qcl 16).1 (qcl 16).2.1 (qcl 16).2.2 = wsX80 := rfl; rw [← e]; exact h), by decide +kernel, by decide +kernel⟩
theorem clOK_17 : ClOK 17 (qcl 17) := ⟨fun w h => in_X9 w (by have e : u_ws (qcl 17).1 (qcl 17).2.1 (qcl 17).2.2 = wsX90 := rfl; rw [← e]; exact h), by decide +kernel, by decide +kernel⟩
theorem clOK_18 : ClOK 18 (qcl 18) := ⟨fun w h => in_X16 w (by have e : u_ws (qcl 18).1 (qcl 18).2.1 (qcl 18).2.2 = wsX160 := rfl; rw [← e]; exact h), by decide +kernel, by decide +kernel⟩
theorem clOK_19 : ClOK 19 (qcl 19) := ⟨fun w h => in_X17 w (by have e : u_ws (qcl 19).1 (qcl 19).2.1 (qcl 19).2.2 = wsX170 := rfl; rw [← e]; exact h), by decide +kernel, by decide +kernel⟩
theorem clOK_20 : ClOK 20 (qcl 20) := ⟨fun w h => in_X22 w (by have e : u_ws (qcl 20).1 (qcl 20).2.1 (qcl 20).2.2 = wsX220 := rfl; rw [← e]; exact h), by decide +kernel, by decide +kernel⟩
theorem clOK_21 : ClOK 21 (qcl 21) := ⟨fun w h => in_J2 w (by have e : u_ws (qcl 21).1 (qcl 21).2.1 (qcl 21).2.2 = wsJ20 := rfl; rw [← e]; exact h), by decide +kernel, by decide +kernel⟩
theorem clOK_22 : ClOK 22 (qcl 22) := ⟨fun w h => in_J17 w (by have e : u_ws (qcl 22).1 (qcl 22).2.1 (qcl 22).2.2 = wsJ170 := rfl; rw [← e]; exact h), by decide +kernel, by decide +kernel⟩
theorem clOK_23 : ClOK 23 (qcl 23) := ⟨fun w h => in_J14 w (by have e : u_ws (qcl 23).1 (qcl 23).2.1 (qcl 23).2.2 = wsJ140 := rfl; rw [← e]; exact h), by decide +kernel, by decide +kernel⟩
theorem clOK_24 : ClOK 24 (qcl 24) := ⟨fun w h => in_J23 w (by have e : u_ws (qcl 24).1 (qcl 24).2.1 (qcl 24).2.2 = wsJ230 := rfl; rw [← e]; exact h), by decide +kernel, by decide +kernel⟩
theorem clOK_25 : ClOK 25 (qcl 25) := ⟨fun w h => in_J24 w (by have e : u_ws (qcl 25).1 (qcl 25).2.1 (qcl 25).2.2 = wsJ240 := rfl; rw [← e]; exact h), by decide +kernel, by decide +kernel⟩
theorem clOK_all : ∀ ci q, cls[ci]? = some q → ClOK ci q := by
  intro ci q h
  match ci, h with
  | 0, h => cases h; exact clOK_0
  | 1, h => cases h; exact clOK_1
  | 2, h => cases h; exact clOK_2
  | 3, h => cases h; exact clOK_3
  | 4, h => cases h; exact clOK_4
  | 5, h => cases h; exact clOK_5
  | 6, h => cases h; exact clOK_6
  | 7, h => cases h; exact clOK_7
  | 8, h => cases h; exact clOK_8
  | 9, h => cases h; exact clOK_9
  | 10, h => cases h; exact clOK_10
  | 11, h => cases h; exact clOK_11
  | 12, h => cases h; exact clOK_12
  | 13, h => cases h; exact clOK_13
  | 14, h => cases h; exact clOK_14
  | 15, h => cases h; exact clOK_15
  | 16, h => cases h; exact clOK_16
  | 17, h => cases h; exact clOK_17
  | 18, h => cases h; exact clOK_18
  | 19, h => cases h; exact clOK_19
  | 20, h => cases h; exact clOK_20
  | 21, h => cases h; exact clOK_21
  | 22, h => cases h; exact clOK_22
  | 23, h => cases h; exact clOK_23
  | 24, h => cases h; exact clOK_24
  | 25, h => cases h; exact clOK_25
  | n + 26, h => exact absurd (List.getElem?_eq_some_iff.mp h).1 (by show ¬ n + 26 < 26; omega)
theorem clIns : ∀ (ci : Nat) (q : vw_C), cls[ci]? = some q → Cond.instantiable q.1 q.2.2 ∈ lw_all := by
  intro ci q h
  match ci, h with
  | 0, h => cases h; exact q98
  | 1, h => cases h; exact q154
  | 2, h => cases h; exact q156
  | 3, h => cases h; exact q177
  | 4, h => cases h; exact q198
  | 5, h => cases h; exact q993
  | 6, h => cases h; exact q1095
  | 7, h => cases h; exact q1227
  | 8, h => cases h; exact q1253
  | 9, h => cases h; exact q1324
  | 10, h => cases h; exact q1593
  | 11, h => cases h; exact q1679
  | 12, h => cases h; exact q1816
  | 13, h => cases h; exact q430
  | 14, h => cases h; exact q1931
  | 15, h => cases h; exact q1940
  | 16, h => cases h; exact q1948
  | 17, h => cases h; exact q1950
  | 18, h => cases h; exact q2168
  | 19, h => cases h; exact q2253
  | 20, h => cases h; exact q2545
  | 21, h => cases h; exact q120
  | 22, h => cases h; exact q1153
  | 23, h => cases h; exact q755
  | 24, h => cases h; exact q379
  | 25, h => cases h; exact q517
  | n + 26, h => exact absurd (List.getElem?_eq_some_iff.mp h).1 (by show ¬ n + 26 < 26; omega)
