theorem tt_1 : 1 + 1 = 2 := rfl
